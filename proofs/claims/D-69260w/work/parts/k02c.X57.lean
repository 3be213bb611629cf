/-! KnowHouseModel$KnowDiskModel (printed by tools/zgen.py) -/
set_option maxRecDepth 100000
set_option maxHeartbeats 4000000 in
theorem atX57_begin_47 {p : Program} {l : Launch} {e : Env} {s : State} {m : MethodId} {args : Array Value} {below : List Frame} {meth : Method} {c : Code} {dC : Nat → ClassId} {dI : Nat → Nat → Nat} {cl : List vw_C} {ci : Nat} (hc : cl[ci]? = some (RX57, TX57, 22)) {ad : Nat → Nat} {d : Nat → ClassId} {A : Nat → Prop} {post : (Int → Int) → (Int → Int) → (Int → Int) → Int → Int → Int → (Int → Int) → (Int → Int) → Int → Int → Int → Prop} {f_count : Int32} {f_runs : Int32} {f_full : Int32} {f_disk : Nat → Int32} {f_open : Nat → Int32} {f_targets : Nat → Int32} {f_bytes : Nat → Int32} {f_keptNumbers : Nat → Int32} {f_keptSectors : Nat → Int64} {f_thrown : Int32} {f_head : Nat → Int32} (X : kX p s m args meth c cX57_begin 5 RX57 none (dC, dI) cl (tX57 d)) {K68 : (Int → Int) → Prop}  {f_later : Nat → Int32} {f_laid : Nat → Int32} {f_changed : Int32} {f_first : Int32} {f_behind : Int32} {f_numbers : Nat → Int32} {f_sectors : Nat → Int64} {f_oldest : Int32} {f_newest : Int32} {f_kept : Int32} (hk68 : ∀ (f_places : Nat → Int32), K68 (zF f_places) → ∀ (H : Heap) (locs : List Loc) (ls : Array Slot), kH (dC, dI) cl A s.heap H locs (wX57 ci ad d f_count f_runs f_full f_disk f_later f_open f_laid f_places f_changed f_targets f_bytes f_first f_behind f_numbers f_sectors f_oldest f_newest f_keptNumbers f_keptSectors f_kept f_thrown f_head) → lv_has ls 5 [(0, .ref (ad 0))] → W p l e ({ frames := 0, cells := 0, slots := 0, locals := 0 } : Room) s m args below meth c H locs 0 0 (MQ below (va_Qv (fun (u : (Nat → Int32) × (Nat → Int32) × (Nat → Int32) × Int32 × Int32 × Int32 × (Nat → Int32) × (Nat → Int64) × Int32 × Int32 × Int32) => post (zF (u.1)) (zF (u.2.1)) (zF (u.2.2.1)) (u.2.2.2.1).toInt (u.2.2.2.2.1).toInt (u.2.2.2.2.2.1).toInt (zF (u.2.2.2.2.2.2.1)) (zG (u.2.2.2.2.2.2.2.1)) (u.2.2.2.2.2.2.2.2.1).toInt (u.2.2.2.2.2.2.2.2.2.1).toInt (u.2.2.2.2.2.2.2.2.2.2).toInt) (kB (dC, dI) cl (tX57 d) A (fun u : (Nat → Int32) × (Nat → Int32) × (Nat → Int32) × Int32 × Int32 × Int32 × (Nat → Int32) × (Nat → Int64) × Int32 × Int32 × Int32 => (wX57 ci ad d f_count f_runs f_full f_disk (u.1) f_open (u.2.1) (u.2.2.1) (u.2.2.2.1) f_targets f_bytes (u.2.2.2.2.1) (u.2.2.2.2.2.1) (u.2.2.2.2.2.2.1) (u.2.2.2.2.2.2.2.1) (u.2.2.2.2.2.2.2.2.1) (u.2.2.2.2.2.2.2.2.2.1) f_keptNumbers f_keptSectors (u.2.2.2.2.2.2.2.2.2.2) f_thrown f_head))) A) args s 0 0 A) (F0 m 68 ls [])) :
    ∀ (nn : Nat) (x4 : Int32) (f_places : Nat → Int32), wX57_begin_47 K68 nn x4.toInt (zF f_places) → ∀ (H : Heap) (locs : List Loc) (ls : Array Slot), kH (dC, dI) cl A s.heap H locs (wX57 ci ad d f_count f_runs f_full f_disk f_later f_open f_laid f_places f_changed f_targets f_bytes f_first f_behind f_numbers f_sectors f_oldest f_newest f_keptNumbers f_keptSectors f_kept f_thrown f_head) → lv_has ls 5 [(0, .ref (ad 0)), (4, .int x4)] → W p l e ({ frames := 0, cells := 0, slots := 0, locals := 0 } : Room) s m args below meth c H locs 0 0 (MQ below (va_Qv (fun (u : (Nat → Int32) × (Nat → Int32) × (Nat → Int32) × Int32 × Int32 × Int32 × (Nat → Int32) × (Nat → Int64) × Int32 × Int32 × Int32) => post (zF (u.1)) (zF (u.2.1)) (zF (u.2.2.1)) (u.2.2.2.1).toInt (u.2.2.2.2.1).toInt (u.2.2.2.2.2.1).toInt (zF (u.2.2.2.2.2.2.1)) (zG (u.2.2.2.2.2.2.2.1)) (u.2.2.2.2.2.2.2.2.1).toInt (u.2.2.2.2.2.2.2.2.2.1).toInt (u.2.2.2.2.2.2.2.2.2.2).toInt) (kB (dC, dI) cl (tX57 d) A (fun u : (Nat → Int32) × (Nat → Int32) × (Nat → Int32) × Int32 × Int32 × Int32 × (Nat → Int32) × (Nat → Int64) × Int32 × Int32 × Int32 => (wX57 ci ad d f_count f_runs f_full f_disk (u.1) f_open (u.2.1) (u.2.2.1) (u.2.2.2.1) f_targets f_bytes (u.2.2.2.2.1) (u.2.2.2.2.2.1) (u.2.2.2.2.2.2.1) (u.2.2.2.2.2.2.2.1) (u.2.2.2.2.2.2.2.2.1) (u.2.2.2.2.2.2.2.2.2.1) f_keptNumbers f_keptSectors (u.2.2.2.2.2.2.2.2.2.2) f_thrown f_head))) A) args s 0 0 A) (F0 m 47 ls []) := by
  have hx := X.1.1
  have hb := X.1.2.1
  intro nn
  induction nn with
  | zero =>
    intro x4 f_places hw
    exact False.elim hw
  | succ n ih =>
    intro x4 f_places hw H locs ls hH hl
    rw [wX57_begin_47] at hw
    refine lv_iload hx hb dX57_begin_47 (lv_at hl 1 rfl) ?_
    refine lv_bipush (v := 30) hx hb dX57_begin_49 (by decide) ?_
    refine lv_icmp_ge (tgt := 68) hx hb dX57_begin_51 (by decide) (fun c_3 => ?_) (fun c_3 => ?_)
    · have hw := hw.1 (z_le (rfl : (30 : Int32).toInt = 30) (rfl : x4.toInt = _) c_3)
      exact hk68 f_places hw _ _ ls hH (lv_sub hl [0] rfl)
    · have hw := hw.2 (z_nle (rfl : (30 : Int32).toInt = 30) (rfl : x4.toInt = _) c_3)
      refine lv_aload_n hx hb dX57_begin_54 rfl (lv_at hl 0 rfl) ?_
      refine k_get X hH in_X57 0 rfl hc 7 (by decide) q6797 rfl dX57_begin_55 ?_
      refine lv_iload hx hb dX57_begin_58 (lv_at hl 1 rfl) ?_
      refine lv_iconst (v := (-1)) hx hb dX57_begin_60 (by decide) ?_
      have hq_5 := hw.1
      have hw := hw.2
      obtain ⟨f_places_4, ef_places_4⟩ : ∃ y : Nat → Int32, y = upd f_places x4.toNatClampNeg (-1) := ⟨_, rfl⟩
      refine k_iast X hH 5 4 rfl rfl (z_in (rfl : x4.toInt = _) hq_5) dX57_begin_61 ef_places_4 (ws1 := (wX57 ci ad d f_count f_runs f_full f_disk f_later f_open f_laid f_places_4 f_changed f_targets f_bytes f_first f_behind f_numbers f_sectors f_oldest f_newest f_keptNumbers f_keptSectors f_kept f_thrown f_head)) rfl (fun H locs hH => ?_)
      have hw := hw (zF f_places_4) (by rw [ef_places_4]; exact z_st (f := f_places) (rfl : x4.toInt = _) hq_5.1 (rfl : ((-1) : Int32).toInt = (-1)))
      have hq_7 := hw.1
      have hw := hw.2
      obtain ⟨x4_6, ex4_6⟩ : ∃ y : Int32, y = x4 + 1 := ⟨_, rfl⟩
      have hw := hw x4_6.toInt (by rw [ex4_6]; exact (z_x (z_add (z_m (rfl : x4.toInt = _)) (z_m (rfl : (1 : Int32).toInt = 1))) hq_7))
      refine lv_iinc (v := x4_6) (lv' := [(4, .int x4_6), (0, .ref (ad 0))]) hx hb dX57_begin_62 hl (k := 1) rfl (by rw [ex4_6]; rfl) (by decide) rfl (fun ls hl => ?_)
      refine lv_goto (tgt := 47) hx hb dX57_begin_65 (by decide) ?_
      exact ih x4_6 f_places_4 hw _ _ ls hH (lv_sub hl [1, 0] rfl)
set_option maxHeartbeats 4000000 in
theorem atX57_begin_71 {p : Program} {l : Launch} {e : Env} {s : State} {m : MethodId} {args : Array Value} {below : List Frame} {meth : Method} {c : Code} {dC : Nat → ClassId} {dI : Nat → Nat → Nat} {cl : List vw_C} {ci : Nat} (hc : cl[ci]? = some (RX57, TX57, 22)) {ad : Nat → Nat} {d : Nat → ClassId} {A : Nat → Prop} {post : (Int → Int) → (Int → Int) → (Int → Int) → Int → Int → Int → (Int → Int) → (Int → Int) → Int → Int → Int → Prop} {f_count : Int32} {f_runs : Int32} {f_full : Int32} {f_disk : Nat → Int32} {f_open : Nat → Int32} {f_targets : Nat → Int32} {f_bytes : Nat → Int32} {f_keptNumbers : Nat → Int32} {f_keptSectors : Nat → Int64} {f_thrown : Int32} {f_head : Nat → Int32} (X : kX p s m args meth c cX57_begin 5 RX57 none (dC, dI) cl (tX57 d)) {K92 : (Int → Int) → Prop}  {f_later : Nat → Int32} {f_places : Nat → Int32} {f_changed : Int32} {f_first : Int32} {f_behind : Int32} {f_numbers : Nat → Int32} {f_sectors : Nat → Int64} {f_oldest : Int32} {f_newest : Int32} {f_kept : Int32} (hk92 : ∀ (f_laid : Nat → Int32), K92 (zF f_laid) → ∀ (H : Heap) (locs : List Loc) (ls : Array Slot), kH (dC, dI) cl A s.heap H locs (wX57 ci ad d f_count f_runs f_full f_disk f_later f_open f_laid f_places f_changed f_targets f_bytes f_first f_behind f_numbers f_sectors f_oldest f_newest f_keptNumbers f_keptSectors f_kept f_thrown f_head) → lv_has ls 5 [(0, .ref (ad 0))] → W p l e ({ frames := 0, cells := 0, slots := 0, locals := 0 } : Room) s m args below meth c H locs 0 0 (MQ below (va_Qv (fun (u : (Nat → Int32) × (Nat → Int32) × (Nat → Int32) × Int32 × Int32 × Int32 × (Nat → Int32) × (Nat → Int64) × Int32 × Int32 × Int32) => post (zF (u.1)) (zF (u.2.1)) (zF (u.2.2.1)) (u.2.2.2.1).toInt (u.2.2.2.2.1).toInt (u.2.2.2.2.2.1).toInt (zF (u.2.2.2.2.2.2.1)) (zG (u.2.2.2.2.2.2.2.1)) (u.2.2.2.2.2.2.2.2.1).toInt (u.2.2.2.2.2.2.2.2.2.1).toInt (u.2.2.2.2.2.2.2.2.2.2).toInt) (kB (dC, dI) cl (tX57 d) A (fun u : (Nat → Int32) × (Nat → Int32) × (Nat → Int32) × Int32 × Int32 × Int32 × (Nat → Int32) × (Nat → Int64) × Int32 × Int32 × Int32 => (wX57 ci ad d f_count f_runs f_full f_disk (u.1) f_open (u.2.1) (u.2.2.1) (u.2.2.2.1) f_targets f_bytes (u.2.2.2.2.1) (u.2.2.2.2.2.1) (u.2.2.2.2.2.2.1) (u.2.2.2.2.2.2.2.1) (u.2.2.2.2.2.2.2.2.1) (u.2.2.2.2.2.2.2.2.2.1) f_keptNumbers f_keptSectors (u.2.2.2.2.2.2.2.2.2.2) f_thrown f_head))) A) args s 0 0 A) (F0 m 92 ls [])) :
    ∀ (nn : Nat) (x4 : Int32) (f_laid : Nat → Int32), wX57_begin_71 K92 nn x4.toInt (zF f_laid) → ∀ (H : Heap) (locs : List Loc) (ls : Array Slot), kH (dC, dI) cl A s.heap H locs (wX57 ci ad d f_count f_runs f_full f_disk f_later f_open f_laid f_places f_changed f_targets f_bytes f_first f_behind f_numbers f_sectors f_oldest f_newest f_keptNumbers f_keptSectors f_kept f_thrown f_head) → lv_has ls 5 [(0, .ref (ad 0)), (4, .int x4)] → W p l e ({ frames := 0, cells := 0, slots := 0, locals := 0 } : Room) s m args below meth c H locs 0 0 (MQ below (va_Qv (fun (u : (Nat → Int32) × (Nat → Int32) × (Nat → Int32) × Int32 × Int32 × Int32 × (Nat → Int32) × (Nat → Int64) × Int32 × Int32 × Int32) => post (zF (u.1)) (zF (u.2.1)) (zF (u.2.2.1)) (u.2.2.2.1).toInt (u.2.2.2.2.1).toInt (u.2.2.2.2.2.1).toInt (zF (u.2.2.2.2.2.2.1)) (zG (u.2.2.2.2.2.2.2.1)) (u.2.2.2.2.2.2.2.2.1).toInt (u.2.2.2.2.2.2.2.2.2.1).toInt (u.2.2.2.2.2.2.2.2.2.2).toInt) (kB (dC, dI) cl (tX57 d) A (fun u : (Nat → Int32) × (Nat → Int32) × (Nat → Int32) × Int32 × Int32 × Int32 × (Nat → Int32) × (Nat → Int64) × Int32 × Int32 × Int32 => (wX57 ci ad d f_count f_runs f_full f_disk (u.1) f_open (u.2.1) (u.2.2.1) (u.2.2.2.1) f_targets f_bytes (u.2.2.2.2.1) (u.2.2.2.2.2.1) (u.2.2.2.2.2.2.1) (u.2.2.2.2.2.2.2.1) (u.2.2.2.2.2.2.2.2.1) (u.2.2.2.2.2.2.2.2.2.1) f_keptNumbers f_keptSectors (u.2.2.2.2.2.2.2.2.2.2) f_thrown f_head))) A) args s 0 0 A) (F0 m 71 ls []) := by
  have hx := X.1.1
  have hb := X.1.2.1
  intro nn
  induction nn with
  | zero =>
    intro x4 f_laid hw
    exact False.elim hw
  | succ n ih =>
    intro x4 f_laid hw H locs ls hH hl
    rw [wX57_begin_71] at hw
    refine lv_iload hx hb dX57_begin_71 (lv_at hl 1 rfl) ?_
    refine lv_bipush (v := 64) hx hb dX57_begin_73 (by decide) ?_
    refine lv_icmp_ge (tgt := 92) hx hb dX57_begin_75 (by decide) (fun c_9 => ?_) (fun c_9 => ?_)
    · have hw := hw.1 (z_le (rfl : (64 : Int32).toInt = 64) (rfl : x4.toInt = _) c_9)
      exact hk92 f_laid hw _ _ ls hH (lv_sub hl [0] rfl)
    · have hw := hw.2 (z_nle (rfl : (64 : Int32).toInt = 64) (rfl : x4.toInt = _) c_9)
      refine lv_aload_n hx hb dX57_begin_78 rfl (lv_at hl 0 rfl) ?_
      refine k_get X hH in_X57 0 rfl hc 6 (by decide) q6796 rfl dX57_begin_79 ?_
      refine lv_iload hx hb dX57_begin_82 (lv_at hl 1 rfl) ?_
      refine lv_iconst (v := 0) hx hb dX57_begin_84 (by decide) ?_
      have hq_11 := hw.1
      have hw := hw.2
      obtain ⟨f_laid_10, ef_laid_10⟩ : ∃ y : Nat → Int32, y = upd f_laid x4.toNatClampNeg (vp_nar .boolean 0) := ⟨_, rfl⟩
      refine k_zast X hH 4 3 rfl rfl (z_in (rfl : x4.toInt = _) hq_11) dX57_begin_85 ef_laid_10 (ws1 := (wX57 ci ad d f_count f_runs f_full f_disk f_later f_open f_laid_10 f_places f_changed f_targets f_bytes f_first f_behind f_numbers f_sectors f_oldest f_newest f_keptNumbers f_keptSectors f_kept f_thrown f_head)) rfl (fun H locs hH => ?_)
      have hw := hw (zF f_laid_10) (by rw [ef_laid_10]; exact z_st (f := f_laid) (rfl : x4.toInt = _) hq_11.1 (z_narZ (rfl : (0 : Int32).toInt = 0) (by decide)))
      have hq_13 := hw.1
      have hw := hw.2
      obtain ⟨x4_12, ex4_12⟩ : ∃ y : Int32, y = x4 + 1 := ⟨_, rfl⟩
      have hw := hw x4_12.toInt (by rw [ex4_12]; exact (z_x (z_add (z_m (rfl : x4.toInt = _)) (z_m (rfl : (1 : Int32).toInt = 1))) hq_13))
      refine lv_iinc (v := x4_12) (lv' := [(4, .int x4_12), (0, .ref (ad 0))]) hx hb dX57_begin_86 hl (k := 1) rfl (by rw [ex4_12]; rfl) (by decide) rfl (fun ls hl => ?_)
      refine lv_goto (tgt := 71) hx hb dX57_begin_89 (by decide) ?_
      exact ih x4_12 f_laid_10 hw _ _ ls hH (lv_sub hl [1, 0] rfl)
set_option maxHeartbeats 4000000 in
theorem atX57_begin_95 {p : Program} {l : Launch} {e : Env} {s : State} {m : MethodId} {args : Array Value} {below : List Frame} {meth : Method} {c : Code} {dC : Nat → ClassId} {dI : Nat → Nat → Nat} {cl : List vw_C} {ci : Nat} (hc : cl[ci]? = some (RX57, TX57, 22)) {ad : Nat → Nat} {d : Nat → ClassId} {A : Nat → Prop} {post : (Int → Int) → (Int → Int) → (Int → Int) → Int → Int → Int → (Int → Int) → (Int → Int) → Int → Int → Int → Prop} {f_count : Int32} {f_runs : Int32} {f_full : Int32} {f_disk : Nat → Int32} {f_open : Nat → Int32} {f_targets : Nat → Int32} {f_bytes : Nat → Int32} {f_keptNumbers : Nat → Int32} {f_keptSectors : Nat → Int64} {f_thrown : Int32} {f_head : Nat → Int32} (X : kX p s m args meth c cX57_begin 5 RX57 none (dC, dI) cl (tX57 d)) {K123 : (Int → Int) → Prop}  {f_laid : Nat → Int32} {f_places : Nat → Int32} {f_changed : Int32} {f_first : Int32} {f_behind : Int32} {f_numbers : Nat → Int32} {f_sectors : Nat → Int64} {f_oldest : Int32} {f_newest : Int32} {f_kept : Int32} (hk123 : ∀ (f_later : Nat → Int32), K123 (zF f_later) → ∀ (H : Heap) (locs : List Loc) (ls : Array Slot), kH (dC, dI) cl A s.heap H locs (wX57 ci ad d f_count f_runs f_full f_disk f_later f_open f_laid f_places f_changed f_targets f_bytes f_first f_behind f_numbers f_sectors f_oldest f_newest f_keptNumbers f_keptSectors f_kept f_thrown f_head) → lv_has ls 5 [] → W p l e ({ frames := 0, cells := 0, slots := 0, locals := 0 } : Room) s m args below meth c H locs 0 0 (MQ below (va_Qv (fun (u : (Nat → Int32) × (Nat → Int32) × (Nat → Int32) × Int32 × Int32 × Int32 × (Nat → Int32) × (Nat → Int64) × Int32 × Int32 × Int32) => post (zF (u.1)) (zF (u.2.1)) (zF (u.2.2.1)) (u.2.2.2.1).toInt (u.2.2.2.2.1).toInt (u.2.2.2.2.2.1).toInt (zF (u.2.2.2.2.2.2.1)) (zG (u.2.2.2.2.2.2.2.1)) (u.2.2.2.2.2.2.2.2.1).toInt (u.2.2.2.2.2.2.2.2.2.1).toInt (u.2.2.2.2.2.2.2.2.2.2).toInt) (kB (dC, dI) cl (tX57 d) A (fun u : (Nat → Int32) × (Nat → Int32) × (Nat → Int32) × Int32 × Int32 × Int32 × (Nat → Int32) × (Nat → Int64) × Int32 × Int32 × Int32 => (wX57 ci ad d f_count f_runs f_full f_disk (u.1) f_open (u.2.1) (u.2.2.1) (u.2.2.2.1) f_targets f_bytes (u.2.2.2.2.1) (u.2.2.2.2.2.1) (u.2.2.2.2.2.2.1) (u.2.2.2.2.2.2.2.1) (u.2.2.2.2.2.2.2.2.1) (u.2.2.2.2.2.2.2.2.2.1) f_keptNumbers f_keptSectors (u.2.2.2.2.2.2.2.2.2.2) f_thrown f_head))) A) args s 0 0 A) (F0 m 123 ls [])) :
    ∀ (nn : Nat) (x4 : Int32) (f_later : Nat → Int32), wX57_begin_95 K123 (zF f_disk) nn x4.toInt (zF f_later) → ∀ (H : Heap) (locs : List Loc) (ls : Array Slot), kH (dC, dI) cl A s.heap H locs (wX57 ci ad d f_count f_runs f_full f_disk f_later f_open f_laid f_places f_changed f_targets f_bytes f_first f_behind f_numbers f_sectors f_oldest f_newest f_keptNumbers f_keptSectors f_kept f_thrown f_head) → lv_has ls 5 [(0, .ref (ad 0)), (4, .int x4)] → W p l e ({ frames := 0, cells := 0, slots := 0, locals := 0 } : Room) s m args below meth c H locs 0 0 (MQ below (va_Qv (fun (u : (Nat → Int32) × (Nat → Int32) × (Nat → Int32) × Int32 × Int32 × Int32 × (Nat → Int32) × (Nat → Int64) × Int32 × Int32 × Int32) => post (zF (u.1)) (zF (u.2.1)) (zF (u.2.2.1)) (u.2.2.2.1).toInt (u.2.2.2.2.1).toInt (u.2.2.2.2.2.1).toInt (zF (u.2.2.2.2.2.2.1)) (zG (u.2.2.2.2.2.2.2.1)) (u.2.2.2.2.2.2.2.2.1).toInt (u.2.2.2.2.2.2.2.2.2.1).toInt (u.2.2.2.2.2.2.2.2.2.2).toInt) (kB (dC, dI) cl (tX57 d) A (fun u : (Nat → Int32) × (Nat → Int32) × (Nat → Int32) × Int32 × Int32 × Int32 × (Nat → Int32) × (Nat → Int64) × Int32 × Int32 × Int32 => (wX57 ci ad d f_count f_runs f_full f_disk (u.1) f_open (u.2.1) (u.2.2.1) (u.2.2.2.1) f_targets f_bytes (u.2.2.2.2.1) (u.2.2.2.2.2.1) (u.2.2.2.2.2.2.1) (u.2.2.2.2.2.2.2.1) (u.2.2.2.2.2.2.2.2.1) (u.2.2.2.2.2.2.2.2.2.1) f_keptNumbers f_keptSectors (u.2.2.2.2.2.2.2.2.2.2) f_thrown f_head))) A) args s 0 0 A) (F0 m 95 ls []) := by
  have hx := X.1.1
  have hb := X.1.2.1
  intro nn
  induction nn with
  | zero =>
    intro x4 f_later hw
    exact False.elim hw
  | succ n ih =>
    intro x4 f_later hw H locs ls hH hl
    rw [wX57_begin_95] at hw
    refine lv_iload hx hb dX57_begin_95 (lv_at hl 1 rfl) ?_
    refine lv_sipush (v := 2048) hx hb dX57_begin_97 (by decide) ?_
    refine lv_icmp_ge (tgt := 123) hx hb dX57_begin_100 (by decide) (fun c_15 => ?_) (fun c_15 => ?_)
    · have hw := hw.1 (z_le (rfl : (2048 : Int32).toInt = 2048) (rfl : x4.toInt = _) c_15)
      exact hk123 f_later hw _ _ ls hH (lv_sub hl [] rfl)
    · have hw := hw.2 (z_nle (rfl : (2048 : Int32).toInt = 2048) (rfl : x4.toInt = _) c_15)
      refine lv_aload_n hx hb dX57_begin_103 rfl (lv_at hl 0 rfl) ?_
      refine k_get X hH in_X57 0 rfl hc 4 (by decide) q6794 rfl dX57_begin_104 ?_
      refine lv_iload hx hb dX57_begin_107 (lv_at hl 1 rfl) ?_
      refine lv_aload_n hx hb dX57_begin_109 rfl (lv_at hl 0 rfl) ?_
      refine k_get X hH in_X57 0 rfl hc 3 (by decide) q6793 rfl dX57_begin_110 ?_
      refine lv_iload hx hb dX57_begin_113 (lv_at hl 1 rfl) ?_
      have hq_16 := hw.1
      have hw := hw.2
      refine k_iald X hH 1 0 rfl rfl (z_in (rfl : x4.toInt = _) hq_16) dX57_begin_115 ?_
      have e_17 := z_ld (f := f_disk) (rfl : x4.toInt = _) hq_16.1
      refine lv_topi (fun v_18 ev_18 => ?_)
      have hw := hw v_18.toInt (by rw [ev_18]; exact e_17)
      obtain ⟨f_later_19, ef_later_19⟩ : ∃ y : Nat → Int32, y = upd f_later x4.toNatClampNeg v_18 := ⟨_, rfl⟩
      refine k_iast X hH 2 1 rfl rfl (z_in (rfl : x4.toInt = _) hq_16) dX57_begin_116 ef_later_19 (ws1 := (wX57 ci ad d f_count f_runs f_full f_disk f_later_19 f_open f_laid f_places f_changed f_targets f_bytes f_first f_behind f_numbers f_sectors f_oldest f_newest f_keptNumbers f_keptSectors f_kept f_thrown f_head)) rfl (fun H locs hH => ?_)
      have hw := hw (zF f_later_19) (by rw [ef_later_19]; exact z_st (f := f_later) (rfl : x4.toInt = _) hq_16.1 (rfl : v_18.toInt = _))
      have hq_21 := hw.1
      have hw := hw.2
      obtain ⟨x4_20, ex4_20⟩ : ∃ y : Int32, y = x4 + 1 := ⟨_, rfl⟩
      have hw := hw x4_20.toInt (by rw [ex4_20]; exact (z_x (z_add (z_m (rfl : x4.toInt = _)) (z_m (rfl : (1 : Int32).toInt = 1))) hq_21))
      refine lv_iinc (v := x4_20) (lv' := [(4, .int x4_20), (0, .ref (ad 0))]) hx hb dX57_begin_117 hl (k := 1) rfl (by rw [ex4_20]; rfl) (by decide) rfl (fun ls hl => ?_)
      refine lv_goto (tgt := 95) hx hb dX57_begin_120 (by decide) ?_
      exact ih x4_20 f_later_19 hw _ _ ls hH (lv_sub hl [1, 0] rfl)
set_option maxHeartbeats 4000000 in
theorem walkX57_begin {l : Launch} {dC : Nat → ClassId} {dI : Nat → Nat → Nat} {cl : List vw_C} {ci : Nat} (hc : cl[ci]? = some (RX57, TX57, 22)) {ad : Nat → Nat} {d : Nat → ClassId} {sz : Nat} {f_count : Int32} {f_runs : Int32} {f_full : Int32} {f_disk : Nat → Int32} {f_later : Nat → Int32} {f_open : Nat → Int32} {f_laid : Nat → Int32} {f_places : Nat → Int32} {f_changed : Int32} {f_targets : Nat → Int32} {f_bytes : Nat → Int32} {f_first : Int32} {f_behind : Int32} {f_numbers : Nat → Int32} {f_sectors : Nat → Int64} {f_oldest : Int32} {f_newest : Int32} {f_keptNumbers : Nat → Int32} {f_keptSectors : Nat → Int64} {f_kept : Int32} {f_thrown : Int32} {f_head : Nat → Int32} {x1 : Int32} {x2 : Int64} {post : (Int → Int) → (Int → Int) → (Int → Int) → Int → Int → Int → (Int → Int) → (Int → Int) → Int → Int → Int → Prop} (hw : wpX57_begin post (zF f_disk) (zF f_later) (zF f_laid) (zF f_places) (zF f_numbers) (zG f_sectors) x1.toInt x2.toInt) :
    Met l yX57_begin (ws_ yX57_begin cX57_begin 5 none) ({ frames := 0, cells := 0, slots := 0, locals := 0 } : Room) (kPc (dC, dI) cl (tX57 d) [.ref (ad 0), .int x1, .long x2] sz (wX57 ci ad d f_count f_runs f_full f_disk f_later f_open f_laid f_places f_changed f_targets f_bytes f_first f_behind f_numbers f_sectors f_oldest f_newest f_keptNumbers f_keptSectors f_kept f_thrown f_head)) (va_Qv (fun (u : (Nat → Int32) × (Nat → Int32) × (Nat → Int32) × Int32 × Int32 × Int32 × (Nat → Int32) × (Nat → Int64) × Int32 × Int32 × Int32) => post (zF (u.1)) (zF (u.2.1)) (zF (u.2.2.1)) (u.2.2.2.1).toInt (u.2.2.2.2.1).toInt (u.2.2.2.2.2.1).toInt (zF (u.2.2.2.2.2.2.1)) (zG (u.2.2.2.2.2.2.2.1)) (u.2.2.2.2.2.2.2.2.1).toInt (u.2.2.2.2.2.2.2.2.2.1).toInt (u.2.2.2.2.2.2.2.2.2.2).toInt) (kB (dC, dI) cl (tX57 d) (va_A (wX57 ci ad d f_count f_runs f_full f_disk f_later f_open f_laid f_places f_changed f_targets f_bytes f_first f_behind f_numbers f_sectors f_oldest f_newest f_keptNumbers f_keptSectors f_kept f_thrown f_head) sz) (fun u : (Nat → Int32) × (Nat → Int32) × (Nat → Int32) × Int32 × Int32 × Int32 × (Nat → Int32) × (Nat → Int64) × Int32 × Int32 × Int32 => (wX57 ci ad d f_count f_runs f_full f_disk (u.1) f_open (u.2.1) (u.2.2.1) (u.2.2.2.1) f_targets f_bytes (u.2.2.2.2.1) (u.2.2.2.2.2.1) (u.2.2.2.2.2.2.1) (u.2.2.2.2.2.2.2.1) (u.2.2.2.2.2.2.2.2.1) (u.2.2.2.2.2.2.2.2.2.1) f_keptNumbers f_keptSectors (u.2.2.2.2.2.2.2.2.2.2) f_thrown f_head))) (va_A (wX57 ci ad d f_count f_runs f_full f_disk f_later f_open f_laid f_places f_changed f_targets f_bytes f_first f_behind f_numbers f_sectors f_oldest f_newest f_keptNumbers f_keptSectors f_kept f_thrown f_head) sz)) 0 0 (va_A (wX57 ci ad d f_count f_runs f_full f_disk f_later f_open f_laid f_places f_changed f_targets f_bytes f_first f_behind f_numbers f_sectors f_oldest f_newest f_keptNumbers f_keptSectors f_kept f_thrown f_head) sz) := by
  refine k_enter (by decide) (Nat.le_of_ble_eq_true rfl) ?_
  intro p e s m below meth c ls X hsz hH hl
  subst hsz
  generalize va_A (wX57 ci ad d f_count f_runs f_full f_disk f_later f_open f_laid f_places f_changed f_targets f_bytes f_first f_behind f_numbers f_sectors f_oldest f_newest f_keptNumbers f_keptSectors f_kept f_thrown f_head) s.heap.size = A at hH ⊢
  have hx := X.1.1
  have hb := X.1.2.1
  have hl : lv_has ls 5 [(0, .ref (ad 0)), (1, .int x1), (2, .long x2)] := hl
  unfold wpX57_begin at hw
  refine lv_aload_n hx hb dX57_begin_0 rfl (lv_at hl 0 rfl) ?_
  refine lv_iconst (v := 0) hx hb dX57_begin_1 (by decide) ?_
  refine k_put X hH in_X57 tyX57_ok nmX57 0 rfl hc 15 (by decide) q6805 rfl (ty := .int) rfl rfl rfl (Nat.le_of_ble_eq_true rfl) dX57_begin_2 (ws1 := (wX57 ci ad d f_count f_runs f_full f_disk f_later f_open f_laid f_places f_changed f_targets f_bytes f_first f_behind f_numbers f_sectors 0 f_newest f_keptNumbers f_keptSectors f_kept f_thrown f_head)) rfl (fun H locs hH => ?_)
  refine lv_aload_n hx hb dX57_begin_5 rfl (lv_at hl 0 rfl) ?_
  refine lv_iconst (v := 0) hx hb dX57_begin_6 (by decide) ?_
  refine k_put X hH in_X57 tyX57_ok nmX57 0 rfl hc 16 (by decide) q6806 rfl (ty := .int) rfl rfl rfl (Nat.le_of_ble_eq_true rfl) dX57_begin_7 (ws1 := (wX57 ci ad d f_count f_runs f_full f_disk f_later f_open f_laid f_places f_changed f_targets f_bytes f_first f_behind f_numbers f_sectors 0 0 f_keptNumbers f_keptSectors f_kept f_thrown f_head)) rfl (fun H locs hH => ?_)
  refine lv_aload_n hx hb dX57_begin_10 rfl (lv_at hl 0 rfl) ?_
  refine k_get X hH in_X57 0 rfl hc 13 (by decide) q6803 rfl dX57_begin_11 ?_
  refine lv_iconst (v := 0) hx hb dX57_begin_14 (by decide) ?_
  refine lv_iload_n hx hb dX57_begin_15 rfl (lv_at hl 1 rfl) ?_
  obtain ⟨f_numbers_1, ef_numbers_1⟩ : ∃ y : Nat → Int32, y = upd f_numbers (0 : Int32).toNatClampNeg x1 := ⟨_, rfl⟩
  refine k_iast X hH 8 7 rfl rfl (by unfold vp_in; decide) dX57_begin_16 ef_numbers_1 (ws1 := (wX57 ci ad d f_count f_runs f_full f_disk f_later f_open f_laid f_places f_changed f_targets f_bytes f_first f_behind f_numbers_1 f_sectors 0 0 f_keptNumbers f_keptSectors f_kept f_thrown f_head)) rfl (fun H locs hH => ?_)
  have hw := hw (zF f_numbers_1) (by rw [ef_numbers_1]; exact z_st (f := f_numbers) (rfl : (0 : Int32).toInt = 0) (by decide) (rfl : x1.toInt = _))
  refine lv_aload_n hx hb dX57_begin_17 rfl (lv_at hl 0 rfl) ?_
  refine k_get X hH in_X57 0 rfl hc 14 (by decide) q6804 rfl dX57_begin_18 ?_
  refine lv_iconst (v := 0) hx hb dX57_begin_21 (by decide) ?_
  refine lv_lload_n hx hb dX57_begin_22 rfl (lv_at hl 2 rfl) ?_
  obtain ⟨f_sectors_2, ef_sectors_2⟩ : ∃ y : Nat → Int64, y = vp_updL f_sectors (0 : Int32).toNatClampNeg x2 := ⟨_, rfl⟩
  refine k_last X hH 9 8 rfl rfl (by unfold vp_in; decide) dX57_begin_23 ef_sectors_2 (ws1 := (wX57 ci ad d f_count f_runs f_full f_disk f_later f_open f_laid f_places f_changed f_targets f_bytes f_first f_behind f_numbers_1 f_sectors_2 0 0 f_keptNumbers f_keptSectors f_kept f_thrown f_head)) rfl (fun H locs hH => ?_)
  have hw := hw (zG f_sectors_2) (by rw [ef_sectors_2]; exact z_stL (f := f_sectors) (rfl : (0 : Int32).toInt = 0) (by decide) (rfl : x2.toInt = _))
  refine lv_aload_n hx hb dX57_begin_24 rfl (lv_at hl 0 rfl) ?_
  refine lv_iconst (v := 0) hx hb dX57_begin_25 (by decide) ?_
  refine k_put X hH in_X57 tyX57_ok nmX57 0 rfl hc 19 (by decide) q6809 rfl (ty := .int) rfl rfl rfl (Nat.le_of_ble_eq_true rfl) dX57_begin_26 (ws1 := (wX57 ci ad d f_count f_runs f_full f_disk f_later f_open f_laid f_places f_changed f_targets f_bytes f_first f_behind f_numbers_1 f_sectors_2 0 0 f_keptNumbers f_keptSectors 0 f_thrown f_head)) rfl (fun H locs hH => ?_)
  refine lv_aload_n hx hb dX57_begin_29 rfl (lv_at hl 0 rfl) ?_
  refine lv_iconst (v := 0) hx hb dX57_begin_30 (by decide) ?_
  refine k_put X hH in_X57 tyX57_ok nmX57 0 rfl hc 11 (by decide) q6801 rfl (ty := .int) rfl rfl rfl (Nat.le_of_ble_eq_true rfl) dX57_begin_31 (ws1 := (wX57 ci ad d f_count f_runs f_full f_disk f_later f_open f_laid f_places f_changed f_targets f_bytes 0 f_behind f_numbers_1 f_sectors_2 0 0 f_keptNumbers f_keptSectors 0 f_thrown f_head)) rfl (fun H locs hH => ?_)
  refine lv_aload_n hx hb dX57_begin_34 rfl (lv_at hl 0 rfl) ?_
  refine lv_iconst (v := 0) hx hb dX57_begin_35 (by decide) ?_
  refine k_put X hH in_X57 tyX57_ok nmX57 0 rfl hc 12 (by decide) q6802 rfl (ty := .int) rfl rfl rfl (Nat.le_of_ble_eq_true rfl) dX57_begin_36 (ws1 := (wX57 ci ad d f_count f_runs f_full f_disk f_later f_open f_laid f_places f_changed f_targets f_bytes 0 0 f_numbers_1 f_sectors_2 0 0 f_keptNumbers f_keptSectors 0 f_thrown f_head)) rfl (fun H locs hH => ?_)
  refine lv_aload_n hx hb dX57_begin_39 rfl (lv_at hl 0 rfl) ?_
  refine lv_iconst (v := 0) hx hb dX57_begin_40 (by decide) ?_
  refine k_put X hH in_X57 tyX57_ok nmX57 0 rfl hc 8 (by decide) q6798 rfl (ty := .boolean) rfl rfl rfl (Nat.le_of_ble_eq_true rfl) dX57_begin_41 (ws1 := (wX57 ci ad d f_count f_runs f_full f_disk f_later f_open f_laid f_places 0 f_targets f_bytes 0 0 f_numbers_1 f_sectors_2 0 0 f_keptNumbers f_keptSectors 0 f_thrown f_head)) rfl (fun H locs hH => ?_)
  refine lv_iconst (v := 0) hx hb dX57_begin_44 (by decide) ?_
  refine lv_istore (lv' := [(4, .int 0), (0, .ref (ad 0)), (1, .int x1), (2, .long x2)]) hx hb dX57_begin_45 hl (by decide) rfl (fun ls hl => ?_)
  obtain ⟨fu, hw⟩ := hw
  refine atX57_begin_47 hc X ?_ fu 0 f_places hw _ _ ls hH (lv_sub hl [1, 0] rfl)
  · intro f_places_8 hw H locs ls hH hl
    refine lv_iconst (v := 0) hx hb dX57_begin_68 (by decide) ?_
    refine lv_istore (lv' := [(4, .int 0), (0, .ref (ad 0))]) hx hb dX57_begin_69 hl (by decide) rfl (fun ls hl => ?_)
    obtain ⟨fu, hw⟩ := hw
    refine atX57_begin_71 hc X ?_ fu 0 f_laid hw _ _ ls hH (lv_sub hl [1, 0] rfl)
    · intro f_laid_14 hw H locs ls hH hl
      refine lv_iconst (v := 0) hx hb dX57_begin_92 (by decide) ?_
      refine lv_istore (lv' := [(4, .int 0), (0, .ref (ad 0))]) hx hb dX57_begin_93 hl (by decide) rfl (fun ls hl => ?_)
      obtain ⟨fu, hw⟩ := hw
      refine atX57_begin_95 hc X ?_ fu 0 f_later hw _ _ ls hH (lv_sub hl [1, 0] rfl)
      · intro f_later_22 hw H locs ls hH hl
        exact k_vret X hH (f_later_22, f_laid_14, f_places_8, 0, 0, 0, f_numbers_1, f_sectors_2, 0, 0, 0) hw rfl dX57_begin_123
set_option maxHeartbeats 4000000 in
theorem walkX57_isPage {l : Launch} {dC : Nat → ClassId} {dI : Nat → Nat → Nat} {cl : List vw_C} {ci : Nat} (hc : cl[ci]? = some (RX57, TX57, 22)) {ad : Nat → Nat} {d : Nat → ClassId} {sz : Nat} {f_count : Int32} {f_runs : Int32} {f_full : Int32} {f_disk : Nat → Int32} {f_later : Nat → Int32} {f_open : Nat → Int32} {f_laid : Nat → Int32} {f_places : Nat → Int32} {f_changed : Int32} {f_targets : Nat → Int32} {f_bytes : Nat → Int32} {f_first : Int32} {f_behind : Int32} {f_numbers : Nat → Int32} {f_sectors : Nat → Int64} {f_oldest : Int32} {f_newest : Int32} {f_keptNumbers : Nat → Int32} {f_keptSectors : Nat → Int64} {f_kept : Int32} {f_thrown : Int32} {f_head : Nat → Int32} {x1 : Int32} {post : Int → Prop} (hw : wpX57_isPage post (zF f_places) x1.toInt) :
    Met l yX57_isPage (ws_ yX57_isPage cX57_isPage 2 (some .boolean)) ({ frames := 0, cells := 0, slots := 0, locals := 0 } : Room) (kPc (dC, dI) cl (tX57 d) [.ref (ad 0), .int x1] sz (wX57 ci ad d f_count f_runs f_full f_disk f_later f_open f_laid f_places f_changed f_targets f_bytes f_first f_behind f_numbers f_sectors f_oldest f_newest f_keptNumbers f_keptSectors f_kept f_thrown f_head)) (va_Qi (fun (r : Int32) (_ : Unit) => post r.toInt) (kB (dC, dI) cl (tX57 d) (va_A (wX57 ci ad d f_count f_runs f_full f_disk f_later f_open f_laid f_places f_changed f_targets f_bytes f_first f_behind f_numbers f_sectors f_oldest f_newest f_keptNumbers f_keptSectors f_kept f_thrown f_head) sz) (fun _ : Unit => (wX57 ci ad d f_count f_runs f_full f_disk f_later f_open f_laid f_places f_changed f_targets f_bytes f_first f_behind f_numbers f_sectors f_oldest f_newest f_keptNumbers f_keptSectors f_kept f_thrown f_head))) (va_A (wX57 ci ad d f_count f_runs f_full f_disk f_later f_open f_laid f_places f_changed f_targets f_bytes f_first f_behind f_numbers f_sectors f_oldest f_newest f_keptNumbers f_keptSectors f_kept f_thrown f_head) sz)) 0 0 (va_A (wX57 ci ad d f_count f_runs f_full f_disk f_later f_open f_laid f_places f_changed f_targets f_bytes f_first f_behind f_numbers f_sectors f_oldest f_newest f_keptNumbers f_keptSectors f_kept f_thrown f_head) sz) := by
  refine k_enter (by decide) (Nat.le_of_ble_eq_true rfl) ?_
  intro p e s m below meth c ls X hsz hH hl
  subst hsz
  generalize va_A (wX57 ci ad d f_count f_runs f_full f_disk f_later f_open f_laid f_places f_changed f_targets f_bytes f_first f_behind f_numbers f_sectors f_oldest f_newest f_keptNumbers f_keptSectors f_kept f_thrown f_head) s.heap.size = A at hH ⊢
  have hx := X.1.1
  have hb := X.1.2.1
  have hl : lv_has ls 2 [(0, .ref (ad 0)), (1, .int x1)] := hl
  unfold wpX57_isPage at hw
  refine lv_iload_n hx hb dX57_isPage_0 rfl (lv_at hl 1 rfl) ?_
  refine lv_if_lt (tgt := 24) hx hb dX57_isPage_1 (by decide) (fun c_1 => ?_) (fun c_1 => ?_)
  · have hw := hw.1 (z_lt (rfl : x1.toInt = _) (rfl : (0 : Int32).toInt = 0) c_1)
    refine lv_iconst (v := 0) hx hb dX57_isPage_24 (by decide) ?_
    exact k_iret (v := 0) X hH () hw rfl rfl dX57_isPage_25
  · have hw := hw.2 (z_nlt (rfl : x1.toInt = _) (rfl : (0 : Int32).toInt = 0) c_1)
    refine lv_iload_n hx hb dX57_isPage_4 rfl (lv_at hl 1 rfl) ?_
    refine lv_bipush (v := 30) hx hb dX57_isPage_5 (by decide) ?_
    refine lv_icmp_ge (tgt := 24) hx hb dX57_isPage_7 (by decide) (fun c_2 => ?_) (fun c_2 => ?_)
    · have hw := hw.1 (z_le (rfl : (30 : Int32).toInt = 30) (rfl : x1.toInt = _) c_2)
      refine lv_iconst (v := 0) hx hb dX57_isPage_24 (by decide) ?_
      exact k_iret (v := 0) X hH () hw rfl rfl dX57_isPage_25
    · have hw := hw.2 (z_nle (rfl : (30 : Int32).toInt = 30) (rfl : x1.toInt = _) c_2)
      refine lv_aload_n hx hb dX57_isPage_10 rfl (lv_at hl 0 rfl) ?_
      refine k_get X hH in_X57 0 rfl hc 7 (by decide) q6797 rfl dX57_isPage_11 ?_
      refine lv_iload_n hx hb dX57_isPage_14 rfl (lv_at hl 1 rfl) ?_
      have hq_3 := hw.1
      have hw := hw.2
      refine k_iald X hH 5 4 rfl rfl (z_in (rfl : x1.toInt = _) hq_3) dX57_isPage_15 ?_
      have e_4 := z_ld (f := f_places) (rfl : x1.toInt = _) hq_3.1
      refine lv_iconst (v := (-1)) hx hb dX57_isPage_16 (by decide) ?_
      refine lv_icmp_eq (tgt := 24) hx hb dX57_isPage_17 (by decide) (fun c_5 => ?_) (fun c_5 => ?_)
      · have hw := hw.1 (z_eq e_4 (rfl : ((-1) : Int32).toInt = (-1)) c_5)
        refine lv_iconst (v := 0) hx hb dX57_isPage_24 (by decide) ?_
        exact k_iret (v := 0) X hH () hw rfl rfl dX57_isPage_25
      · have hw := hw.2 (z_neq e_4 (rfl : ((-1) : Int32).toInt = (-1)) c_5)
        refine lv_iconst (v := 1) hx hb dX57_isPage_20 (by decide) ?_
        refine lv_goto (tgt := 25) hx hb dX57_isPage_21 (by decide) ?_
        exact k_iret (v := 1) X hH () hw rfl rfl dX57_isPage_25
set_option maxHeartbeats 4000000 in
theorem walkX57_byteOf {l : Launch} {dC : Nat → ClassId} {dI : Nat → Nat → Nat} {cl : List vw_C} {ci : Nat} (hc : cl[ci]? = some (RX57, TX57, 22)) {ad : Nat → Nat} {d : Nat → ClassId} {sz : Nat} {f_count : Int32} {f_runs : Int32} {f_full : Int32} {f_disk : Nat → Int32} {f_later : Nat → Int32} {f_open : Nat → Int32} {f_laid : Nat → Int32} {f_places : Nat → Int32} {f_changed : Int32} {f_targets : Nat → Int32} {f_bytes : Nat → Int32} {f_first : Int32} {f_behind : Int32} {f_numbers : Nat → Int32} {f_sectors : Nat → Int64} {f_oldest : Int32} {f_newest : Int32} {f_keptNumbers : Nat → Int32} {f_keptSectors : Nat → Int64} {f_kept : Int32} {f_thrown : Int32} {f_head : Nat → Int32} {x1 : Int32} {x2 : Int32} {post : Int → Prop} (hw : wpX57_byteOf post (zF f_later) (zF f_open) (zF f_laid) x1.toInt x2.toInt) :
    Met l yX57_byteOf (ws_ yX57_byteOf cX57_byteOf 3 (some .int)) ({ frames := 0, cells := 0, slots := 0, locals := 0 } : Room) (kPc (dC, dI) cl (tX57 d) [.ref (ad 0), .int x1, .int x2] sz (wX57 ci ad d f_count f_runs f_full f_disk f_later f_open f_laid f_places f_changed f_targets f_bytes f_first f_behind f_numbers f_sectors f_oldest f_newest f_keptNumbers f_keptSectors f_kept f_thrown f_head)) (va_Qi (fun (r : Int32) (_ : Unit) => post r.toInt) (kB (dC, dI) cl (tX57 d) (va_A (wX57 ci ad d f_count f_runs f_full f_disk f_later f_open f_laid f_places f_changed f_targets f_bytes f_first f_behind f_numbers f_sectors f_oldest f_newest f_keptNumbers f_keptSectors f_kept f_thrown f_head) sz) (fun _ : Unit => (wX57 ci ad d f_count f_runs f_full f_disk f_later f_open f_laid f_places f_changed f_targets f_bytes f_first f_behind f_numbers f_sectors f_oldest f_newest f_keptNumbers f_keptSectors f_kept f_thrown f_head))) (va_A (wX57 ci ad d f_count f_runs f_full f_disk f_later f_open f_laid f_places f_changed f_targets f_bytes f_first f_behind f_numbers f_sectors f_oldest f_newest f_keptNumbers f_keptSectors f_kept f_thrown f_head) sz)) 0 0 (va_A (wX57 ci ad d f_count f_runs f_full f_disk f_later f_open f_laid f_places f_changed f_targets f_bytes f_first f_behind f_numbers f_sectors f_oldest f_newest f_keptNumbers f_keptSectors f_kept f_thrown f_head) sz) := by
  refine k_enter (by decide) (Nat.le_of_ble_eq_true rfl) ?_
  intro p e s m below meth c ls X hsz hH hl
  subst hsz
  generalize va_A (wX57 ci ad d f_count f_runs f_full f_disk f_later f_open f_laid f_places f_changed f_targets f_bytes f_first f_behind f_numbers f_sectors f_oldest f_newest f_keptNumbers f_keptSectors f_kept f_thrown f_head) s.heap.size = A at hH ⊢
  have hx := X.1.1
  have hb := X.1.2.1
  have hl : lv_has ls 3 [(0, .ref (ad 0)), (1, .int x1), (2, .int x2)] := hl
  unfold wpX57_byteOf at hw
  refine lv_aload_n hx hb dX57_byteOf_0 rfl (lv_at hl 0 rfl) ?_
  refine k_get X hH in_X57 0 rfl hc 6 (by decide) q6796 rfl dX57_byteOf_1 ?_
  refine lv_iload_n hx hb dX57_byteOf_4 rfl (lv_at hl 1 rfl) ?_
  have hq_1 := hw.1
  have hw := hw.2
  refine k_zald X hH 4 3 rfl rfl (z_in (rfl : x1.toInt = _) hq_1) dX57_byteOf_5 ?_
  have e_2 := z_ld (f := f_laid) (rfl : x1.toInt = _) hq_1.1
  refine lv_if_eq (tgt := 23) hx hb dX57_byteOf_6 (by decide) (fun c_3 => ?_) (fun c_3 => ?_)
  · have hw := hw.1 (z_eq e_2 (rfl : (0 : Int32).toInt = 0) c_3)
    refine lv_aload_n hx hb dX57_byteOf_23 rfl (lv_at hl 0 rfl) ?_
    refine k_get X hH in_X57 0 rfl hc 4 (by decide) q6794 rfl dX57_byteOf_24 ?_
    refine lv_bipush (v := 32) hx hb dX57_byteOf_27 (by decide) ?_
    refine lv_iload_n hx hb dX57_byteOf_29 rfl (lv_at hl 1 rfl) ?_
    refine lv_imul hx hb dX57_byteOf_30 ?_
    have e_4 := z_mul (z_m (rfl : (32 : Int32).toInt = 32)) (z_m (rfl : x1.toInt = _))
    refine lv_iload_n hx hb dX57_byteOf_31 rfl (lv_at hl 2 rfl) ?_
    refine lv_iadd hx hb dX57_byteOf_32 ?_
    have e_5 := z_add e_4 (z_m (rfl : x2.toInt = _))
    have hq_6 := hw.1
    have hw := hw.2
    have e_7 := z_xi e_5 hq_6 (by decide)
    refine k_iald X hH 2 1 rfl rfl (z_in e_7 hq_6) dX57_byteOf_33 ?_
    have e_8 := z_ld (f := f_later) e_7 hq_6.1
    exact k_iret (v := f_later ((32 * x1) + x2).toNatClampNeg) X hH () (by rw [show (f_later ((32 * x1) + x2).toNatClampNeg : Int32).toInt = _ from e_8]; exact hw) rfl rfl dX57_byteOf_34
  · have hw := hw.2 (z_neq e_2 (rfl : (0 : Int32).toInt = 0) c_3)
    refine lv_aload_n hx hb dX57_byteOf_9 rfl (lv_at hl 0 rfl) ?_
    refine k_get X hH in_X57 0 rfl hc 5 (by decide) q6795 rfl dX57_byteOf_10 ?_
    refine lv_bipush (v := 32) hx hb dX57_byteOf_13 (by decide) ?_
    refine lv_iload_n hx hb dX57_byteOf_15 rfl (lv_at hl 1 rfl) ?_
    refine lv_imul hx hb dX57_byteOf_16 ?_
    have e_9 := z_mul (z_m (rfl : (32 : Int32).toInt = 32)) (z_m (rfl : x1.toInt = _))
    refine lv_iload_n hx hb dX57_byteOf_17 rfl (lv_at hl 2 rfl) ?_
    refine lv_iadd hx hb dX57_byteOf_18 ?_
    have e_10 := z_add e_9 (z_m (rfl : x2.toInt = _))
    have hq_11 := hw.1
    have hw := hw.2
    have e_12 := z_xi e_10 hq_11 (by decide)
    refine k_iald X hH 3 2 rfl rfl (z_in e_12 hq_11) dX57_byteOf_19 ?_
    have e_13 := z_ld (f := f_open) e_12 hq_11.1
    refine lv_goto (tgt := 34) hx hb dX57_byteOf_20 (by decide) ?_
    exact k_iret (v := f_open ((32 * x1) + x2).toNatClampNeg) X hH () (by rw [show (f_open ((32 * x1) + x2).toNatClampNeg : Int32).toInt = _ from e_13]; exact hw) rfl rfl dX57_byteOf_34
set_option maxHeartbeats 4000000 in
theorem walkX57_kindOf {l : Launch} {dC : Nat → ClassId} {dI : Nat → Nat → Nat} {cl : List vw_C} {ci : Nat} (hc : cl[ci]? = some (RX57, TX57, 22)) {ad : Nat → Nat} {d : Nat → ClassId} {sz : Nat} {f_count : Int32} {f_runs : Int32} {f_full : Int32} {f_disk : Nat → Int32} {f_later : Nat → Int32} {f_open : Nat → Int32} {f_laid : Nat → Int32} {f_places : Nat → Int32} {f_changed : Int32} {f_targets : Nat → Int32} {f_bytes : Nat → Int32} {f_first : Int32} {f_behind : Int32} {f_numbers : Nat → Int32} {f_sectors : Nat → Int64} {f_oldest : Int32} {f_newest : Int32} {f_keptNumbers : Nat → Int32} {f_keptSectors : Nat → Int64} {f_kept : Int32} {f_thrown : Int32} {f_head : Nat → Int32} {x1 : Int32} {post : Int → Prop} (hw : wpX57_kindOf post (zF f_later) (zF f_open) (zF f_laid) x1.toInt) :
    Met l yX57_kindOf (ws_ yX57_kindOf cX57_kindOf 3 (some .int)) ({ frames := 1, cells := 0, slots := 0, locals := 22 } : Room) (kPc (dC, dI) cl (tX57 d) [.ref (ad 0), .int x1] sz (wX57 ci ad d f_count f_runs f_full f_disk f_later f_open f_laid f_places f_changed f_targets f_bytes f_first f_behind f_numbers f_sectors f_oldest f_newest f_keptNumbers f_keptSectors f_kept f_thrown f_head)) (va_Qi (fun (r : Int32) (_ : Unit) => post r.toInt) (kB (dC, dI) cl (tX57 d) (va_A (wX57 ci ad d f_count f_runs f_full f_disk f_later f_open f_laid f_places f_changed f_targets f_bytes f_first f_behind f_numbers f_sectors f_oldest f_newest f_keptNumbers f_keptSectors f_kept f_thrown f_head) sz) (fun _ : Unit => (wX57 ci ad d f_count f_runs f_full f_disk f_later f_open f_laid f_places f_changed f_targets f_bytes f_first f_behind f_numbers f_sectors f_oldest f_newest f_keptNumbers f_keptSectors f_kept f_thrown f_head))) (va_A (wX57 ci ad d f_count f_runs f_full f_disk f_later f_open f_laid f_places f_changed f_targets f_bytes f_first f_behind f_numbers f_sectors f_oldest f_newest f_keptNumbers f_keptSectors f_kept f_thrown f_head) sz)) 0 0 (va_A (wX57 ci ad d f_count f_runs f_full f_disk f_later f_open f_laid f_places f_changed f_targets f_bytes f_first f_behind f_numbers f_sectors f_oldest f_newest f_keptNumbers f_keptSectors f_kept f_thrown f_head) sz) := by
  refine k_enter (by decide) (Nat.le_of_ble_eq_true rfl) ?_
  intro p e s m below meth c ls X hsz hH hl
  subst hsz
  generalize va_A (wX57 ci ad d f_count f_runs f_full f_disk f_later f_open f_laid f_places f_changed f_targets f_bytes f_first f_behind f_numbers f_sectors f_oldest f_newest f_keptNumbers f_keptSectors f_kept f_thrown f_head) s.heap.size = A at hH ⊢
  have hx := X.1.1
  have hb := X.1.2.1
  have hl : lv_has ls 3 [(0, .ref (ad 0)), (1, .int x1)] := hl
  unfold wpX57_kindOf at hw
  refine lv_aload_n hx hb dX57_kindOf_0 rfl (lv_at hl 0 rfl) ?_
  refine lv_iload_n hx hb dX57_kindOf_1 rfl (lv_at hl 1 rfl) ?_
  refine lv_iconst (v := 4) hx hb dX57_kindOf_2 (by decide) ?_
  refine k_i0 hH (k_runV (As := [.int x1, .int 4]) (rest := []) X hH.1 hH.2.1 X.2.2.2 (walkX57_byteOf hc (x1 := x1) (x2 := 4) (f_count := f_count) (f_runs := f_runs) (f_full := f_full) (f_disk := f_disk) (f_later := f_later) (f_open := f_open) (f_laid := f_laid) (f_places := f_places) (f_changed := f_changed) (f_targets := f_targets) (f_bytes := f_bytes) (f_first := f_first) (f_behind := f_behind) (f_numbers := f_numbers) (f_sectors := f_sectors) (f_oldest := f_oldest) (f_newest := f_newest) (f_keptNumbers := f_keptNumbers) (f_keptSectors := f_keptSectors) (f_kept := f_kept) (f_thrown := f_thrown) (f_head := f_head) hw) (cwV 2 X.1.2.2.2.2 gX57_97 rfl rfl rfl hX57_byteOf ⟨Nat.le_of_ble_eq_true rfl, Nat.le_of_ble_eq_true rfl⟩) hc (q0 := 0) rfl rfl hl.1 rfl (Nat.le_of_ble_eq_true rfl) dX57_kindOf_3 ⟨Nat.le_refl 0, Nat.le_refl 0⟩) (fun r_1 _ H locs hw hH => ?_)
  have hH : kH (dC, dI) cl A s.heap H locs (wX57 ci ad d f_count f_runs f_full f_disk f_later f_open f_laid f_places f_changed f_targets f_bytes f_first f_behind f_numbers f_sectors f_oldest f_newest f_keptNumbers f_keptSectors f_kept f_thrown f_head) := hH
  refine lv_istore_n (lv' := [(2, .int r_1), (0, .ref (ad 0)), (1, .int x1)]) hx hb dX57_kindOf_6 rfl hl (by decide) rfl (fun ls hl => ?_)
  refine lv_iload_n hx hb dX57_kindOf_7 rfl (lv_at hl 0 rfl) ?_
  refine lv_bipush (v := 127) hx hb dX57_kindOf_8 (by decide) ?_
  refine lv_icmp_le (tgt := 21) hx hb dX57_kindOf_10 (by decide) (fun c_2 => ?_) (fun c_2 => ?_)
  · have hw := hw.1 (z_le (rfl : r_1.toInt = _) (rfl : (127 : Int32).toInt = 127) c_2)
    refine lv_iload_n hx hb dX57_kindOf_21 rfl (lv_at hl 0 rfl) ?_
    exact k_iret (v := r_1) X hH () hw rfl rfl dX57_kindOf_22
  · have hw := hw.2 (z_nle (rfl : r_1.toInt = _) (rfl : (127 : Int32).toInt = 127) c_2)
    refine lv_iload_n hx hb dX57_kindOf_13 rfl (lv_at hl 0 rfl) ?_
    refine lv_sipush (v := 256) hx hb dX57_kindOf_14 (by decide) ?_
    refine lv_isub hx hb dX57_kindOf_17 ?_
    have e_3 := z_sub (z_m (rfl : r_1.toInt = _)) (z_m (rfl : (256 : Int32).toInt = 256))
    refine lv_goto (tgt := 22) hx hb dX57_kindOf_18 (by decide) ?_
    have hq_4 := hw.1
    have hw := hw.2
    have e_5 := z_x e_3 hq_4
    exact k_iret (v := r_1 - 256) X hH () (by rw [show (r_1 - 256 : Int32).toInt = _ from e_5]; exact hw) rfl rfl dX57_kindOf_22
set_option maxHeartbeats 4000000 in
theorem atX57_freePage_2 {p : Program} {l : Launch} {e : Env} {s : State} {m : MethodId} {args : Array Value} {below : List Frame} {meth : Method} {c : Code} {dC : Nat → ClassId} {dI : Nat → Nat → Nat} {cl : List vw_C} {ci : Nat} (hc : cl[ci]? = some (RX57, TX57, 22)) {ad : Nat → Nat} {d : Nat → ClassId} {A : Nat → Prop} {post : Int → Prop} {f_count : Int32} {f_runs : Int32} {f_full : Int32} {f_disk : Nat → Int32} {f_later : Nat → Int32} {f_open : Nat → Int32} {f_laid : Nat → Int32} {f_places : Nat → Int32} {f_changed : Int32} {f_targets : Nat → Int32} {f_bytes : Nat → Int32} {f_first : Int32} {f_behind : Int32} {f_numbers : Nat → Int32} {f_sectors : Nat → Int64} {f_oldest : Int32} {f_newest : Int32} {f_keptNumbers : Nat → Int32} {f_keptSectors : Nat → Int64} {f_kept : Int32} {f_thrown : Int32} {f_head : Nat → Int32} (X : kX p s m args meth c cX57_freePage 2 RX57 (some .int) (dC, dI) cl (tX57 d)) {K24 : Int → Prop}   (hk24 : ∀ (x1 : Int32), K24 x1.toInt → ∀ (H : Heap) (locs : List Loc) (ls : Array Slot), kH (dC, dI) cl A s.heap H locs (wX57 ci ad d f_count f_runs f_full f_disk f_later f_open f_laid f_places f_changed f_targets f_bytes f_first f_behind f_numbers f_sectors f_oldest f_newest f_keptNumbers f_keptSectors f_kept f_thrown f_head) → lv_has ls 2 [(1, .int x1)] → W p l e ({ frames := 0, cells := 0, slots := 0, locals := 0 } : Room) s m args below meth c H locs 0 0 (MQ below (va_Qi (fun (r : Int32) (_ : Unit) => post r.toInt) (kB (dC, dI) cl (tX57 d) A (fun _ : Unit => (wX57 ci ad d f_count f_runs f_full f_disk f_later f_open f_laid f_places f_changed f_targets f_bytes f_first f_behind f_numbers f_sectors f_oldest f_newest f_keptNumbers f_keptSectors f_kept f_thrown f_head))) A) args s 0 0 A) (F0 m 24 ls [])) :
    ∀ (nn : Nat) (x1 : Int32), wX57_freePage_2 K24 (zF f_places) nn x1.toInt → ∀ (H : Heap) (locs : List Loc) (ls : Array Slot), kH (dC, dI) cl A s.heap H locs (wX57 ci ad d f_count f_runs f_full f_disk f_later f_open f_laid f_places f_changed f_targets f_bytes f_first f_behind f_numbers f_sectors f_oldest f_newest f_keptNumbers f_keptSectors f_kept f_thrown f_head) → lv_has ls 2 [(0, .ref (ad 0)), (1, .int x1)] → W p l e ({ frames := 0, cells := 0, slots := 0, locals := 0 } : Room) s m args below meth c H locs 0 0 (MQ below (va_Qi (fun (r : Int32) (_ : Unit) => post r.toInt) (kB (dC, dI) cl (tX57 d) A (fun _ : Unit => (wX57 ci ad d f_count f_runs f_full f_disk f_later f_open f_laid f_places f_changed f_targets f_bytes f_first f_behind f_numbers f_sectors f_oldest f_newest f_keptNumbers f_keptSectors f_kept f_thrown f_head))) A) args s 0 0 A) (F0 m 2 ls []) := by
  have hx := X.1.1
  have hb := X.1.2.1
  intro nn
  induction nn with
  | zero =>
    intro x1 hw
    exact False.elim hw
  | succ n ih =>
    intro x1 hw H locs ls hH hl
    rw [wX57_freePage_2] at hw
    refine lv_iload_n hx hb dX57_freePage_2 rfl (lv_at hl 1 rfl) ?_
    refine lv_bipush (v := 30) hx hb dX57_freePage_3 (by decide) ?_
    refine lv_icmp_ge (tgt := 24) hx hb dX57_freePage_5 (by decide) (fun c_1 => ?_) (fun c_1 => ?_)
    · have hw := hw.1 (z_le (rfl : (30 : Int32).toInt = 30) (rfl : x1.toInt = _) c_1)
      exact hk24 x1 hw _ _ ls hH (lv_sub hl [1] rfl)
    · have hw := hw.2 (z_nle (rfl : (30 : Int32).toInt = 30) (rfl : x1.toInt = _) c_1)
      refine lv_aload_n hx hb dX57_freePage_8 rfl (lv_at hl 0 rfl) ?_
      refine k_get X hH in_X57 0 rfl hc 7 (by decide) q6797 rfl dX57_freePage_9 ?_
      refine lv_iload_n hx hb dX57_freePage_12 rfl (lv_at hl 1 rfl) ?_
      have hq_2 := hw.1
      have hw := hw.2
      refine k_iald X hH 5 4 rfl rfl (z_in (rfl : x1.toInt = _) hq_2) dX57_freePage_13 ?_
      have e_3 := z_ld (f := f_places) (rfl : x1.toInt = _) hq_2.1
      refine lv_iconst (v := (-1)) hx hb dX57_freePage_14 (by decide) ?_
      refine lv_icmp_eq (tgt := 24) hx hb dX57_freePage_15 (by decide) (fun c_4 => ?_) (fun c_4 => ?_)
      · have hw := hw.1 (z_eq e_3 (rfl : ((-1) : Int32).toInt = (-1)) c_4)
        exact hk24 x1 hw _ _ ls hH (lv_sub hl [1] rfl)
      · have hw := hw.2 (z_neq e_3 (rfl : ((-1) : Int32).toInt = (-1)) c_4)
        have hq_6 := hw.1
        have hw := hw.2
        obtain ⟨x1_5, ex1_5⟩ : ∃ y : Int32, y = x1 + 1 := ⟨_, rfl⟩
        have hw := hw x1_5.toInt (by rw [ex1_5]; exact (z_x (z_add (z_m (rfl : x1.toInt = _)) (z_m (rfl : (1 : Int32).toInt = 1))) hq_6))
        refine lv_iinc (v := x1_5) (lv' := [(1, .int x1_5), (0, .ref (ad 0))]) hx hb dX57_freePage_18 hl (k := 1) rfl (by rw [ex1_5]; rfl) (by decide) rfl (fun ls hl => ?_)
        refine lv_goto (tgt := 2) hx hb dX57_freePage_21 (by decide) ?_
        exact ih x1_5 hw _ _ ls hH (lv_sub hl [1, 0] rfl)
set_option maxHeartbeats 4000000 in
theorem walkX57_freePage {l : Launch} {dC : Nat → ClassId} {dI : Nat → Nat → Nat} {cl : List vw_C} {ci : Nat} (hc : cl[ci]? = some (RX57, TX57, 22)) {ad : Nat → Nat} {d : Nat → ClassId} {sz : Nat} {f_count : Int32} {f_runs : Int32} {f_full : Int32} {f_disk : Nat → Int32} {f_later : Nat → Int32} {f_open : Nat → Int32} {f_laid : Nat → Int32} {f_places : Nat → Int32} {f_changed : Int32} {f_targets : Nat → Int32} {f_bytes : Nat → Int32} {f_first : Int32} {f_behind : Int32} {f_numbers : Nat → Int32} {f_sectors : Nat → Int64} {f_oldest : Int32} {f_newest : Int32} {f_keptNumbers : Nat → Int32} {f_keptSectors : Nat → Int64} {f_kept : Int32} {f_thrown : Int32} {f_head : Nat → Int32}  {post : Int → Prop} (hw : wpX57_freePage post (zF f_places) ) :
    Met l yX57_freePage (ws_ yX57_freePage cX57_freePage 2 (some .int)) ({ frames := 0, cells := 0, slots := 0, locals := 0 } : Room) (kPc (dC, dI) cl (tX57 d) [.ref (ad 0)] sz (wX57 ci ad d f_count f_runs f_full f_disk f_later f_open f_laid f_places f_changed f_targets f_bytes f_first f_behind f_numbers f_sectors f_oldest f_newest f_keptNumbers f_keptSectors f_kept f_thrown f_head)) (va_Qi (fun (r : Int32) (_ : Unit) => post r.toInt) (kB (dC, dI) cl (tX57 d) (va_A (wX57 ci ad d f_count f_runs f_full f_disk f_later f_open f_laid f_places f_changed f_targets f_bytes f_first f_behind f_numbers f_sectors f_oldest f_newest f_keptNumbers f_keptSectors f_kept f_thrown f_head) sz) (fun _ : Unit => (wX57 ci ad d f_count f_runs f_full f_disk f_later f_open f_laid f_places f_changed f_targets f_bytes f_first f_behind f_numbers f_sectors f_oldest f_newest f_keptNumbers f_keptSectors f_kept f_thrown f_head))) (va_A (wX57 ci ad d f_count f_runs f_full f_disk f_later f_open f_laid f_places f_changed f_targets f_bytes f_first f_behind f_numbers f_sectors f_oldest f_newest f_keptNumbers f_keptSectors f_kept f_thrown f_head) sz)) 0 0 (va_A (wX57 ci ad d f_count f_runs f_full f_disk f_later f_open f_laid f_places f_changed f_targets f_bytes f_first f_behind f_numbers f_sectors f_oldest f_newest f_keptNumbers f_keptSectors f_kept f_thrown f_head) sz) := by
  refine k_enter (by decide) (Nat.le_of_ble_eq_true rfl) ?_
  intro p e s m below meth c ls X hsz hH hl
  subst hsz
  generalize va_A (wX57 ci ad d f_count f_runs f_full f_disk f_later f_open f_laid f_places f_changed f_targets f_bytes f_first f_behind f_numbers f_sectors f_oldest f_newest f_keptNumbers f_keptSectors f_kept f_thrown f_head) s.heap.size = A at hH ⊢
  have hx := X.1.1
  have hb := X.1.2.1
  have hl : lv_has ls 2 [(0, .ref (ad 0))] := hl
  unfold wpX57_freePage at hw
  refine lv_iconst (v := 0) hx hb dX57_freePage_0 (by decide) ?_
  refine lv_istore_n (lv' := [(1, .int 0), (0, .ref (ad 0))]) hx hb dX57_freePage_1 rfl hl (by decide) rfl (fun ls hl => ?_)
  obtain ⟨fu, hw⟩ := hw
  refine atX57_freePage_2 hc X ?_ fu 0 hw _ _ ls hH (lv_sub hl [1, 0] rfl)
  · intro x1_7 hw H locs ls hH hl
    refine lv_iload_n hx hb dX57_freePage_24 rfl (lv_at hl 0 rfl) ?_
    refine lv_bipush (v := 30) hx hb dX57_freePage_25 (by decide) ?_
    refine lv_icmp_ge (tgt := 34) hx hb dX57_freePage_27 (by decide) (fun c_8 => ?_) (fun c_8 => ?_)
    · have hw := hw.1 (z_le (rfl : (30 : Int32).toInt = 30) (rfl : x1_7.toInt = _) c_8)
      refine lv_iconst (v := (-1)) hx hb dX57_freePage_34 (by decide) ?_
      exact k_iret (v := (-1)) X hH () hw rfl rfl dX57_freePage_35
    · have hw := hw.2 (z_nle (rfl : (30 : Int32).toInt = 30) (rfl : x1_7.toInt = _) c_8)
      refine lv_iload_n hx hb dX57_freePage_30 rfl (lv_at hl 0 rfl) ?_
      refine lv_goto (tgt := 35) hx hb dX57_freePage_31 (by decide) ?_
      exact k_iret (v := x1_7) X hH () hw rfl rfl dX57_freePage_35
set_option maxHeartbeats 4000000 in
theorem walkX57_number_open {l : Launch} {dC : Nat → ClassId} {dI : Nat → Nat → Nat} {cl : List vw_C} {ci : Nat} (hc : cl[ci]? = some (RX57, TX57, 22)) {ad : Nat → Nat} {d : Nat → ClassId} {sz : Nat} {f_count : Int32} {f_runs : Int32} {f_full : Int32} {f_disk : Nat → Int32} {f_later : Nat → Int32} {f_open : Nat → Int32} {f_laid : Nat → Int32} {f_places : Nat → Int32} {f_changed : Int32} {f_targets : Nat → Int32} {f_bytes : Nat → Int32} {f_first : Int32} {f_behind : Int32} {f_numbers : Nat → Int32} {f_sectors : Nat → Int64} {f_oldest : Int32} {f_newest : Int32} {f_keptNumbers : Nat → Int32} {f_keptSectors : Nat → Int64} {f_kept : Int32} {f_thrown : Int32} {f_head : Nat → Int32} {x1 : Int32} {post : Int → Prop} (hw : wpX57_number_open post (zF f_open) x1.toInt) :
    Met l yX57_number (ws_ yX57_number cX57_number 2 (some .int)) ({ frames := 0, cells := 0, slots := 0, locals := 0 } : Room) (kPc (dC, dI) cl (tX57 d) [.ref (ad 3), .int x1] sz (wX57 ci ad d f_count f_runs f_full f_disk f_later f_open f_laid f_places f_changed f_targets f_bytes f_first f_behind f_numbers f_sectors f_oldest f_newest f_keptNumbers f_keptSectors f_kept f_thrown f_head)) (va_Qi (fun (r : Int32) (_ : Unit) => post r.toInt) (kB (dC, dI) cl (tX57 d) (va_A (wX57 ci ad d f_count f_runs f_full f_disk f_later f_open f_laid f_places f_changed f_targets f_bytes f_first f_behind f_numbers f_sectors f_oldest f_newest f_keptNumbers f_keptSectors f_kept f_thrown f_head) sz) (fun _ : Unit => (wX57 ci ad d f_count f_runs f_full f_disk f_later f_open f_laid f_places f_changed f_targets f_bytes f_first f_behind f_numbers f_sectors f_oldest f_newest f_keptNumbers f_keptSectors f_kept f_thrown f_head))) (va_A (wX57 ci ad d f_count f_runs f_full f_disk f_later f_open f_laid f_places f_changed f_targets f_bytes f_first f_behind f_numbers f_sectors f_oldest f_newest f_keptNumbers f_keptSectors f_kept f_thrown f_head) sz)) 0 0 (va_A (wX57 ci ad d f_count f_runs f_full f_disk f_later f_open f_laid f_places f_changed f_targets f_bytes f_first f_behind f_numbers f_sectors f_oldest f_newest f_keptNumbers f_keptSectors f_kept f_thrown f_head) sz) := by
  refine k_enter (by decide) (Nat.le_of_ble_eq_true rfl) ?_
  intro p e s m below meth c ls X hsz hH hl
  subst hsz
  generalize va_A (wX57 ci ad d f_count f_runs f_full f_disk f_later f_open f_laid f_places f_changed f_targets f_bytes f_first f_behind f_numbers f_sectors f_oldest f_newest f_keptNumbers f_keptSectors f_kept f_thrown f_head) s.heap.size = A at hH ⊢
  have hx := X.1.1
  have hb := X.1.2.1
  have hl : lv_has ls 2 [(0, .ref (ad 3)), (1, .int x1)] := hl
  unfold wpX57_number_open at hw
  refine lv_aload_n hx hb dX57_number_0 rfl (lv_at hl 0 rfl) ?_
  refine lv_iload_n hx hb dX57_number_1 rfl (lv_at hl 1 rfl) ?_
  have hq_1 := hw.1
  have hw := hw.2
  refine k_iald X hH 3 2 rfl rfl (z_in (rfl : x1.toInt = _) hq_1) dX57_number_2 ?_
  have e_2 := z_ld (f := f_open) (rfl : x1.toInt = _) hq_1.1
  refine lv_bipush (v := 24) hx hb dX57_number_3 (by decide) ?_
  refine lv_ishl hx hb dX57_number_5 ?_
  have e_3 := z_shl (z_m e_2) (k := 24) (m := 24) (c := 16777216) (by decide)
  refine lv_aload_n hx hb dX57_number_6 rfl (lv_at hl 0 rfl) ?_
  refine lv_iload_n hx hb dX57_number_7 rfl (lv_at hl 1 rfl) ?_
  refine lv_iconst (v := 1) hx hb dX57_number_8 (by decide) ?_
  refine lv_iadd hx hb dX57_number_9 ?_
  have e_4 := z_add (z_m (rfl : x1.toInt = _)) (z_m (rfl : (1 : Int32).toInt = 1))
  have hq_5 := hw.1
  have hw := hw.2
  have e_6 := z_xi e_4 hq_5 (by decide)
  refine k_iald X hH 3 2 rfl rfl (z_in e_6 hq_5) dX57_number_10 ?_
  have e_7 := z_ld (f := f_open) e_6 hq_5.1
  refine lv_bipush (v := 16) hx hb dX57_number_11 (by decide) ?_
  refine lv_ishl hx hb dX57_number_13 ?_
  have e_8 := z_shl (z_m e_7) (k := 16) (m := 16) (c := 65536) (by decide)
  refine lv_ior hx hb dX57_number_14 ?_
  have e_9 := z_or e_3 e_8
  refine lv_aload_n hx hb dX57_number_15 rfl (lv_at hl 0 rfl) ?_
  refine lv_iload_n hx hb dX57_number_16 rfl (lv_at hl 1 rfl) ?_
  refine lv_iconst (v := 2) hx hb dX57_number_17 (by decide) ?_
  refine lv_iadd hx hb dX57_number_18 ?_
  have e_10 := z_add (z_m (rfl : x1.toInt = _)) (z_m (rfl : (2 : Int32).toInt = 2))
  have hq_11 := hw.1
  have hw := hw.2
  have e_12 := z_xi e_10 hq_11 (by decide)
  refine k_iald X hH 3 2 rfl rfl (z_in e_12 hq_11) dX57_number_19 ?_
  have e_13 := z_ld (f := f_open) e_12 hq_11.1
  refine lv_bipush (v := 8) hx hb dX57_number_20 (by decide) ?_
  refine lv_ishl hx hb dX57_number_22 ?_
  have e_14 := z_shl (z_m e_13) (k := 8) (m := 8) (c := 256) (by decide)
  refine lv_ior hx hb dX57_number_23 ?_
  have e_15 := z_or (z_m e_9) e_14
  refine lv_aload_n hx hb dX57_number_24 rfl (lv_at hl 0 rfl) ?_
  refine lv_iload_n hx hb dX57_number_25 rfl (lv_at hl 1 rfl) ?_
  refine lv_iconst (v := 3) hx hb dX57_number_26 (by decide) ?_
  refine lv_iadd hx hb dX57_number_27 ?_
  have e_16 := z_add (z_m (rfl : x1.toInt = _)) (z_m (rfl : (3 : Int32).toInt = 3))
  have hq_17 := hw.1
  have hw := hw.2
  have e_18 := z_xi e_16 hq_17 (by decide)
  refine k_iald X hH 3 2 rfl rfl (z_in e_18 hq_17) dX57_number_28 ?_
  have e_19 := z_ld (f := f_open) e_18 hq_17.1
  refine lv_ior hx hb dX57_number_29 ?_
  have e_20 := z_or (z_m e_15) (z_m e_19)
  exact k_iret (v := ((((f_open x1.toNatClampNeg) <<< ((24 : Int32) &&& 31)) ||| ((f_open (x1 + 1).toNatClampNeg) <<< ((16 : Int32) &&& 31))) ||| ((f_open (x1 + 2).toNatClampNeg) <<< ((8 : Int32) &&& 31))) ||| (f_open (x1 + 3).toNatClampNeg)) X hH () (by rw [show (((((f_open x1.toNatClampNeg) <<< ((24 : Int32) &&& 31)) ||| ((f_open (x1 + 1).toNatClampNeg) <<< ((16 : Int32) &&& 31))) ||| ((f_open (x1 + 2).toNatClampNeg) <<< ((8 : Int32) &&& 31))) ||| (f_open (x1 + 3).toNatClampNeg) : Int32).toInt = _ from e_20]; exact hw) rfl rfl dX57_number_30
set_option maxHeartbeats 4000000 in
theorem walkX57_wide_open {l : Launch} {dC : Nat → ClassId} {dI : Nat → Nat → Nat} {cl : List vw_C} {ci : Nat} (hc : cl[ci]? = some (RX57, TX57, 22)) {ad : Nat → Nat} {d : Nat → ClassId} {sz : Nat} {f_count : Int32} {f_runs : Int32} {f_full : Int32} {f_disk : Nat → Int32} {f_later : Nat → Int32} {f_open : Nat → Int32} {f_laid : Nat → Int32} {f_places : Nat → Int32} {f_changed : Int32} {f_targets : Nat → Int32} {f_bytes : Nat → Int32} {f_first : Int32} {f_behind : Int32} {f_numbers : Nat → Int32} {f_sectors : Nat → Int64} {f_oldest : Int32} {f_newest : Int32} {f_keptNumbers : Nat → Int32} {f_keptSectors : Nat → Int64} {f_kept : Int32} {f_thrown : Int32} {f_head : Nat → Int32} {x1 : Int32} {post : Int → Prop} (hw : wpX57_wide_open post (zF f_open) x1.toInt) :
    Met l yX57_wide (ws_ yX57_wide cX57_wide 2 (some .long)) ({ frames := 1, cells := 0, slots := 0, locals := 21 } : Room) (kPc (dC, dI) cl (tX57 d) [.ref (ad 3), .int x1] sz (wX57 ci ad d f_count f_runs f_full f_disk f_later f_open f_laid f_places f_changed f_targets f_bytes f_first f_behind f_numbers f_sectors f_oldest f_newest f_keptNumbers f_keptSectors f_kept f_thrown f_head)) (va_Ql (fun (r : Int64) (_ : Unit) => post r.toInt) (kB (dC, dI) cl (tX57 d) (va_A (wX57 ci ad d f_count f_runs f_full f_disk f_later f_open f_laid f_places f_changed f_targets f_bytes f_first f_behind f_numbers f_sectors f_oldest f_newest f_keptNumbers f_keptSectors f_kept f_thrown f_head) sz) (fun _ : Unit => (wX57 ci ad d f_count f_runs f_full f_disk f_later f_open f_laid f_places f_changed f_targets f_bytes f_first f_behind f_numbers f_sectors f_oldest f_newest f_keptNumbers f_keptSectors f_kept f_thrown f_head))) (va_A (wX57 ci ad d f_count f_runs f_full f_disk f_later f_open f_laid f_places f_changed f_targets f_bytes f_first f_behind f_numbers f_sectors f_oldest f_newest f_keptNumbers f_keptSectors f_kept f_thrown f_head) sz)) 0 0 (va_A (wX57 ci ad d f_count f_runs f_full f_disk f_later f_open f_laid f_places f_changed f_targets f_bytes f_first f_behind f_numbers f_sectors f_oldest f_newest f_keptNumbers f_keptSectors f_kept f_thrown f_head) sz) := by
  refine k_enter (by decide) (Nat.le_of_ble_eq_true rfl) ?_
  intro p e s m below meth c ls X hsz hH hl
  subst hsz
  generalize va_A (wX57 ci ad d f_count f_runs f_full f_disk f_later f_open f_laid f_places f_changed f_targets f_bytes f_first f_behind f_numbers f_sectors f_oldest f_newest f_keptNumbers f_keptSectors f_kept f_thrown f_head) s.heap.size = A at hH ⊢
  have hx := X.1.1
  have hb := X.1.2.1
  have hl : lv_has ls 2 [(0, .ref (ad 3)), (1, .int x1)] := hl
  unfold wpX57_wide_open at hw
  refine lv_aload_n hx hb dX57_wide_0 rfl (lv_at hl 0 rfl) ?_
  refine lv_iload_n hx hb dX57_wide_1 rfl (lv_at hl 1 rfl) ?_
  refine k_i0 hH (k_runS (As := [.ref (ad 3), .int x1]) (rest := []) X hH.1 hH.2.1 X.2.2.2 (walkX57_number_open hc (x1 := x1) (f_count := f_count) (f_runs := f_runs) (f_full := f_full) (f_disk := f_disk) (f_later := f_later) (f_open := f_open) (f_laid := f_laid) (f_places := f_places) (f_changed := f_changed) (f_targets := f_targets) (f_bytes := f_bytes) (f_first := f_first) (f_behind := f_behind) (f_numbers := f_numbers) (f_sectors := f_sectors) (f_oldest := f_oldest) (f_newest := f_newest) (f_keptNumbers := f_keptNumbers) (f_keptSectors := f_keptSectors) (f_kept := f_kept) (f_thrown := f_thrown) (f_head := f_head) hw) (va_cwS 2 X.1.2.2.2.2 gX57_88 rfl rfl rfl hX57_number ⟨Nat.le_of_ble_eq_true rfl, Nat.le_of_ble_eq_true rfl⟩) rfl hl.1 rfl (Nat.le_of_ble_eq_true rfl) dX57_wide_2 ⟨Nat.le_refl 0, Nat.le_refl 0⟩) (fun r_1 _ H locs hw hH => ?_)
  have hH : kH (dC, dI) cl A s.heap H locs (wX57 ci ad d f_count f_runs f_full f_disk f_later f_open f_laid f_places f_changed f_targets f_bytes f_first f_behind f_numbers f_sectors f_oldest f_newest f_keptNumbers f_keptSectors f_kept f_thrown f_head) := hH
  refine lv_i2l (v := r_1.toInt64) hx hb dX57_wide_5 rfl ?_
  have e_2 := z_i2l (rfl : r_1.toInt = _)
  refine lv_bipush (v := 32) hx hb dX57_wide_6 (by decide) ?_
  refine lv_lshl (v := (r_1.toInt64) <<< ((32 : Int32).toInt64 &&& 63)) hx hb dX57_wide_8 rfl ?_
  have e_3 := zL_shl (zL_m e_2) (k := 32) (m := 32) (c := 4294967296) (by decide)
  refine lv_aload_n hx hb dX57_wide_9 rfl (lv_at hl 0 rfl) ?_
  refine lv_iload_n hx hb dX57_wide_10 rfl (lv_at hl 1 rfl) ?_
  refine lv_iconst (v := 4) hx hb dX57_wide_11 (by decide) ?_
  refine lv_iadd hx hb dX57_wide_12 ?_
  have e_4 := z_add (z_m (rfl : x1.toInt = _)) (z_m (rfl : (4 : Int32).toInt = 4))
  have hq_5 := hw.1
  have hw := hw.2
  have e_6 := z_x e_4 hq_5
  refine k_i0 hH (k_runS (As := [.ref (ad 3), .int (x1 + 4)]) (rest := [.long ((r_1.toInt64) <<< ((32 : Int32).toInt64 &&& 63))]) X hH.1 hH.2.1 X.2.2.2 (walkX57_number_open hc (x1 := (x1 + 4)) (f_count := f_count) (f_runs := f_runs) (f_full := f_full) (f_disk := f_disk) (f_later := f_later) (f_open := f_open) (f_laid := f_laid) (f_places := f_places) (f_changed := f_changed) (f_targets := f_targets) (f_bytes := f_bytes) (f_first := f_first) (f_behind := f_behind) (f_numbers := f_numbers) (f_sectors := f_sectors) (f_oldest := f_oldest) (f_newest := f_newest) (f_keptNumbers := f_keptNumbers) (f_keptSectors := f_keptSectors) (f_kept := f_kept) (f_thrown := f_thrown) (f_head := f_head) (by rw [show (x1 + 4 : Int32).toInt = _ from e_6]; exact hw)) (va_cwS 2 X.1.2.2.2.2 gX57_88 rfl rfl rfl hX57_number ⟨Nat.le_of_ble_eq_true rfl, Nat.le_of_ble_eq_true rfl⟩) rfl hl.1 rfl (Nat.le_of_ble_eq_true rfl) dX57_wide_13 ⟨Nat.le_refl 0, Nat.le_refl 0⟩) (fun r_7 _ H locs hw hH => ?_)
  have hH : kH (dC, dI) cl A s.heap H locs (wX57 ci ad d f_count f_runs f_full f_disk f_later f_open f_laid f_places f_changed f_targets f_bytes f_first f_behind f_numbers f_sectors f_oldest f_newest f_keptNumbers f_keptSectors f_kept f_thrown f_head) := hH
  refine lv_i2l (v := r_7.toInt64) hx hb dX57_wide_16 rfl ?_
  have e_8 := z_i2l (rfl : r_7.toInt = _)
  refine lv_ldc2 (v := 4294967295) hx hb X.1.2.2.2.1 (X.1.2.2.2.2 _ q7820) dX57_wide_17 ?_
  refine lv_land hx hb dX57_wide_20 ?_
  have e_9 := zL_mask (zL_m e_8) (k := 32) (mm := 4294967295) (c := 4294967296) (by decide)
  refine lv_lor hx hb dX57_wide_21 ?_
  have e_10 := zL_or e_3 (zL_m e_9)
  exact k_lret (v := ((r_1.toInt64) <<< ((32 : Int32).toInt64 &&& 63)) ||| ((r_7.toInt64) &&& 4294967295)) X hH () (by rw [show (((r_1.toInt64) <<< ((32 : Int32).toInt64 &&& 63)) ||| ((r_7.toInt64) &&& 4294967295) : Int64).toInt = _ from e_10]; exact hw) rfl dX57_wide_22
set_option maxHeartbeats 4000000 in
theorem walkX57_number_later {l : Launch} {dC : Nat → ClassId} {dI : Nat → Nat → Nat} {cl : List vw_C} {ci : Nat} (hc : cl[ci]? = some (RX57, TX57, 22)) {ad : Nat → Nat} {d : Nat → ClassId} {sz : Nat} {f_count : Int32} {f_runs : Int32} {f_full : Int32} {f_disk : Nat → Int32} {f_later : Nat → Int32} {f_open : Nat → Int32} {f_laid : Nat → Int32} {f_places : Nat → Int32} {f_changed : Int32} {f_targets : Nat → Int32} {f_bytes : Nat → Int32} {f_first : Int32} {f_behind : Int32} {f_numbers : Nat → Int32} {f_sectors : Nat → Int64} {f_oldest : Int32} {f_newest : Int32} {f_keptNumbers : Nat → Int32} {f_keptSectors : Nat → Int64} {f_kept : Int32} {f_thrown : Int32} {f_head : Nat → Int32} {x1 : Int32} {post : Int → Prop} (hw : wpX57_number_later post (zF f_later) x1.toInt) :
    Met l yX57_number (ws_ yX57_number cX57_number 2 (some .int)) ({ frames := 0, cells := 0, slots := 0, locals := 0 } : Room) (kPc (dC, dI) cl (tX57 d) [.ref (ad 2), .int x1] sz (wX57 ci ad d f_count f_runs f_full f_disk f_later f_open f_laid f_places f_changed f_targets f_bytes f_first f_behind f_numbers f_sectors f_oldest f_newest f_keptNumbers f_keptSectors f_kept f_thrown f_head)) (va_Qi (fun (r : Int32) (_ : Unit) => post r.toInt) (kB (dC, dI) cl (tX57 d) (va_A (wX57 ci ad d f_count f_runs f_full f_disk f_later f_open f_laid f_places f_changed f_targets f_bytes f_first f_behind f_numbers f_sectors f_oldest f_newest f_keptNumbers f_keptSectors f_kept f_thrown f_head) sz) (fun _ : Unit => (wX57 ci ad d f_count f_runs f_full f_disk f_later f_open f_laid f_places f_changed f_targets f_bytes f_first f_behind f_numbers f_sectors f_oldest f_newest f_keptNumbers f_keptSectors f_kept f_thrown f_head))) (va_A (wX57 ci ad d f_count f_runs f_full f_disk f_later f_open f_laid f_places f_changed f_targets f_bytes f_first f_behind f_numbers f_sectors f_oldest f_newest f_keptNumbers f_keptSectors f_kept f_thrown f_head) sz)) 0 0 (va_A (wX57 ci ad d f_count f_runs f_full f_disk f_later f_open f_laid f_places f_changed f_targets f_bytes f_first f_behind f_numbers f_sectors f_oldest f_newest f_keptNumbers f_keptSectors f_kept f_thrown f_head) sz) := by
  refine k_enter (by decide) (Nat.le_of_ble_eq_true rfl) ?_
  intro p e s m below meth c ls X hsz hH hl
  subst hsz
  generalize va_A (wX57 ci ad d f_count f_runs f_full f_disk f_later f_open f_laid f_places f_changed f_targets f_bytes f_first f_behind f_numbers f_sectors f_oldest f_newest f_keptNumbers f_keptSectors f_kept f_thrown f_head) s.heap.size = A at hH ⊢
  have hx := X.1.1
  have hb := X.1.2.1
  have hl : lv_has ls 2 [(0, .ref (ad 2)), (1, .int x1)] := hl
  unfold wpX57_number_later at hw
  refine lv_aload_n hx hb dX57_number_0 rfl (lv_at hl 0 rfl) ?_
  refine lv_iload_n hx hb dX57_number_1 rfl (lv_at hl 1 rfl) ?_
  have hq_1 := hw.1
  have hw := hw.2
  refine k_iald X hH 2 1 rfl rfl (z_in (rfl : x1.toInt = _) hq_1) dX57_number_2 ?_
  have e_2 := z_ld (f := f_later) (rfl : x1.toInt = _) hq_1.1
  refine lv_bipush (v := 24) hx hb dX57_number_3 (by decide) ?_
  refine lv_ishl hx hb dX57_number_5 ?_
  have e_3 := z_shl (z_m e_2) (k := 24) (m := 24) (c := 16777216) (by decide)
  refine lv_aload_n hx hb dX57_number_6 rfl (lv_at hl 0 rfl) ?_
  refine lv_iload_n hx hb dX57_number_7 rfl (lv_at hl 1 rfl) ?_
  refine lv_iconst (v := 1) hx hb dX57_number_8 (by decide) ?_
  refine lv_iadd hx hb dX57_number_9 ?_
  have e_4 := z_add (z_m (rfl : x1.toInt = _)) (z_m (rfl : (1 : Int32).toInt = 1))
  have hq_5 := hw.1
  have hw := hw.2
  have e_6 := z_xi e_4 hq_5 (by decide)
  refine k_iald X hH 2 1 rfl rfl (z_in e_6 hq_5) dX57_number_10 ?_
  have e_7 := z_ld (f := f_later) e_6 hq_5.1
  refine lv_bipush (v := 16) hx hb dX57_number_11 (by decide) ?_
  refine lv_ishl hx hb dX57_number_13 ?_
  have e_8 := z_shl (z_m e_7) (k := 16) (m := 16) (c := 65536) (by decide)
  refine lv_ior hx hb dX57_number_14 ?_
  have e_9 := z_or e_3 e_8
  refine lv_aload_n hx hb dX57_number_15 rfl (lv_at hl 0 rfl) ?_
  refine lv_iload_n hx hb dX57_number_16 rfl (lv_at hl 1 rfl) ?_
  refine lv_iconst (v := 2) hx hb dX57_number_17 (by decide) ?_
  refine lv_iadd hx hb dX57_number_18 ?_
  have e_10 := z_add (z_m (rfl : x1.toInt = _)) (z_m (rfl : (2 : Int32).toInt = 2))
  have hq_11 := hw.1
  have hw := hw.2
  have e_12 := z_xi e_10 hq_11 (by decide)
  refine k_iald X hH 2 1 rfl rfl (z_in e_12 hq_11) dX57_number_19 ?_
  have e_13 := z_ld (f := f_later) e_12 hq_11.1
  refine lv_bipush (v := 8) hx hb dX57_number_20 (by decide) ?_
  refine lv_ishl hx hb dX57_number_22 ?_
  have e_14 := z_shl (z_m e_13) (k := 8) (m := 8) (c := 256) (by decide)
  refine lv_ior hx hb dX57_number_23 ?_
  have e_15 := z_or (z_m e_9) e_14
  refine lv_aload_n hx hb dX57_number_24 rfl (lv_at hl 0 rfl) ?_
  refine lv_iload_n hx hb dX57_number_25 rfl (lv_at hl 1 rfl) ?_
  refine lv_iconst (v := 3) hx hb dX57_number_26 (by decide) ?_
  refine lv_iadd hx hb dX57_number_27 ?_
  have e_16 := z_add (z_m (rfl : x1.toInt = _)) (z_m (rfl : (3 : Int32).toInt = 3))
  have hq_17 := hw.1
  have hw := hw.2
  have e_18 := z_xi e_16 hq_17 (by decide)
  refine k_iald X hH 2 1 rfl rfl (z_in e_18 hq_17) dX57_number_28 ?_
  have e_19 := z_ld (f := f_later) e_18 hq_17.1
  refine lv_ior hx hb dX57_number_29 ?_
  have e_20 := z_or (z_m e_15) (z_m e_19)
  exact k_iret (v := ((((f_later x1.toNatClampNeg) <<< ((24 : Int32) &&& 31)) ||| ((f_later (x1 + 1).toNatClampNeg) <<< ((16 : Int32) &&& 31))) ||| ((f_later (x1 + 2).toNatClampNeg) <<< ((8 : Int32) &&& 31))) ||| (f_later (x1 + 3).toNatClampNeg)) X hH () (by rw [show (((((f_later x1.toNatClampNeg) <<< ((24 : Int32) &&& 31)) ||| ((f_later (x1 + 1).toNatClampNeg) <<< ((16 : Int32) &&& 31))) ||| ((f_later (x1 + 2).toNatClampNeg) <<< ((8 : Int32) &&& 31))) ||| (f_later (x1 + 3).toNatClampNeg) : Int32).toInt = _ from e_20]; exact hw) rfl rfl dX57_number_30
set_option maxHeartbeats 4000000 in
theorem walkX57_wide_later {l : Launch} {dC : Nat → ClassId} {dI : Nat → Nat → Nat} {cl : List vw_C} {ci : Nat} (hc : cl[ci]? = some (RX57, TX57, 22)) {ad : Nat → Nat} {d : Nat → ClassId} {sz : Nat} {f_count : Int32} {f_runs : Int32} {f_full : Int32} {f_disk : Nat → Int32} {f_later : Nat → Int32} {f_open : Nat → Int32} {f_laid : Nat → Int32} {f_places : Nat → Int32} {f_changed : Int32} {f_targets : Nat → Int32} {f_bytes : Nat → Int32} {f_first : Int32} {f_behind : Int32} {f_numbers : Nat → Int32} {f_sectors : Nat → Int64} {f_oldest : Int32} {f_newest : Int32} {f_keptNumbers : Nat → Int32} {f_keptSectors : Nat → Int64} {f_kept : Int32} {f_thrown : Int32} {f_head : Nat → Int32} {x1 : Int32} {post : Int → Prop} (hw : wpX57_wide_later post (zF f_later) x1.toInt) :
    Met l yX57_wide (ws_ yX57_wide cX57_wide 2 (some .long)) ({ frames := 1, cells := 0, slots := 0, locals := 21 } : Room) (kPc (dC, dI) cl (tX57 d) [.ref (ad 2), .int x1] sz (wX57 ci ad d f_count f_runs f_full f_disk f_later f_open f_laid f_places f_changed f_targets f_bytes f_first f_behind f_numbers f_sectors f_oldest f_newest f_keptNumbers f_keptSectors f_kept f_thrown f_head)) (va_Ql (fun (r : Int64) (_ : Unit) => post r.toInt) (kB (dC, dI) cl (tX57 d) (va_A (wX57 ci ad d f_count f_runs f_full f_disk f_later f_open f_laid f_places f_changed f_targets f_bytes f_first f_behind f_numbers f_sectors f_oldest f_newest f_keptNumbers f_keptSectors f_kept f_thrown f_head) sz) (fun _ : Unit => (wX57 ci ad d f_count f_runs f_full f_disk f_later f_open f_laid f_places f_changed f_targets f_bytes f_first f_behind f_numbers f_sectors f_oldest f_newest f_keptNumbers f_keptSectors f_kept f_thrown f_head))) (va_A (wX57 ci ad d f_count f_runs f_full f_disk f_later f_open f_laid f_places f_changed f_targets f_bytes f_first f_behind f_numbers f_sectors f_oldest f_newest f_keptNumbers f_keptSectors f_kept f_thrown f_head) sz)) 0 0 (va_A (wX57 ci ad d f_count f_runs f_full f_disk f_later f_open f_laid f_places f_changed f_targets f_bytes f_first f_behind f_numbers f_sectors f_oldest f_newest f_keptNumbers f_keptSectors f_kept f_thrown f_head) sz) := by
  refine k_enter (by decide) (Nat.le_of_ble_eq_true rfl) ?_
  intro p e s m below meth c ls X hsz hH hl
  subst hsz
  generalize va_A (wX57 ci ad d f_count f_runs f_full f_disk f_later f_open f_laid f_places f_changed f_targets f_bytes f_first f_behind f_numbers f_sectors f_oldest f_newest f_keptNumbers f_keptSectors f_kept f_thrown f_head) s.heap.size = A at hH ⊢
  have hx := X.1.1
  have hb := X.1.2.1
  have hl : lv_has ls 2 [(0, .ref (ad 2)), (1, .int x1)] := hl
  unfold wpX57_wide_later at hw
  refine lv_aload_n hx hb dX57_wide_0 rfl (lv_at hl 0 rfl) ?_
  refine lv_iload_n hx hb dX57_wide_1 rfl (lv_at hl 1 rfl) ?_
  refine k_i0 hH (k_runS (As := [.ref (ad 2), .int x1]) (rest := []) X hH.1 hH.2.1 X.2.2.2 (walkX57_number_later hc (x1 := x1) (f_count := f_count) (f_runs := f_runs) (f_full := f_full) (f_disk := f_disk) (f_later := f_later) (f_open := f_open) (f_laid := f_laid) (f_places := f_places) (f_changed := f_changed) (f_targets := f_targets) (f_bytes := f_bytes) (f_first := f_first) (f_behind := f_behind) (f_numbers := f_numbers) (f_sectors := f_sectors) (f_oldest := f_oldest) (f_newest := f_newest) (f_keptNumbers := f_keptNumbers) (f_keptSectors := f_keptSectors) (f_kept := f_kept) (f_thrown := f_thrown) (f_head := f_head) hw) (va_cwS 2 X.1.2.2.2.2 gX57_88 rfl rfl rfl hX57_number ⟨Nat.le_of_ble_eq_true rfl, Nat.le_of_ble_eq_true rfl⟩) rfl hl.1 rfl (Nat.le_of_ble_eq_true rfl) dX57_wide_2 ⟨Nat.le_refl 0, Nat.le_refl 0⟩) (fun r_1 _ H locs hw hH => ?_)
  have hH : kH (dC, dI) cl A s.heap H locs (wX57 ci ad d f_count f_runs f_full f_disk f_later f_open f_laid f_places f_changed f_targets f_bytes f_first f_behind f_numbers f_sectors f_oldest f_newest f_keptNumbers f_keptSectors f_kept f_thrown f_head) := hH
  refine lv_i2l (v := r_1.toInt64) hx hb dX57_wide_5 rfl ?_
  have e_2 := z_i2l (rfl : r_1.toInt = _)
  refine lv_bipush (v := 32) hx hb dX57_wide_6 (by decide) ?_
  refine lv_lshl (v := (r_1.toInt64) <<< ((32 : Int32).toInt64 &&& 63)) hx hb dX57_wide_8 rfl ?_
  have e_3 := zL_shl (zL_m e_2) (k := 32) (m := 32) (c := 4294967296) (by decide)
  refine lv_aload_n hx hb dX57_wide_9 rfl (lv_at hl 0 rfl) ?_
  refine lv_iload_n hx hb dX57_wide_10 rfl (lv_at hl 1 rfl) ?_
  refine lv_iconst (v := 4) hx hb dX57_wide_11 (by decide) ?_
  refine lv_iadd hx hb dX57_wide_12 ?_
  have e_4 := z_add (z_m (rfl : x1.toInt = _)) (z_m (rfl : (4 : Int32).toInt = 4))
  have hq_5 := hw.1
  have hw := hw.2
  have e_6 := z_x e_4 hq_5
  refine k_i0 hH (k_runS (As := [.ref (ad 2), .int (x1 + 4)]) (rest := [.long ((r_1.toInt64) <<< ((32 : Int32).toInt64 &&& 63))]) X hH.1 hH.2.1 X.2.2.2 (walkX57_number_later hc (x1 := (x1 + 4)) (f_count := f_count) (f_runs := f_runs) (f_full := f_full) (f_disk := f_disk) (f_later := f_later) (f_open := f_open) (f_laid := f_laid) (f_places := f_places) (f_changed := f_changed) (f_targets := f_targets) (f_bytes := f_bytes) (f_first := f_first) (f_behind := f_behind) (f_numbers := f_numbers) (f_sectors := f_sectors) (f_oldest := f_oldest) (f_newest := f_newest) (f_keptNumbers := f_keptNumbers) (f_keptSectors := f_keptSectors) (f_kept := f_kept) (f_thrown := f_thrown) (f_head := f_head) (by rw [show (x1 + 4 : Int32).toInt = _ from e_6]; exact hw)) (va_cwS 2 X.1.2.2.2.2 gX57_88 rfl rfl rfl hX57_number ⟨Nat.le_of_ble_eq_true rfl, Nat.le_of_ble_eq_true rfl⟩) rfl hl.1 rfl (Nat.le_of_ble_eq_true rfl) dX57_wide_13 ⟨Nat.le_refl 0, Nat.le_refl 0⟩) (fun r_7 _ H locs hw hH => ?_)
  have hH : kH (dC, dI) cl A s.heap H locs (wX57 ci ad d f_count f_runs f_full f_disk f_later f_open f_laid f_places f_changed f_targets f_bytes f_first f_behind f_numbers f_sectors f_oldest f_newest f_keptNumbers f_keptSectors f_kept f_thrown f_head) := hH
  refine lv_i2l (v := r_7.toInt64) hx hb dX57_wide_16 rfl ?_
  have e_8 := z_i2l (rfl : r_7.toInt = _)
  refine lv_ldc2 (v := 4294967295) hx hb X.1.2.2.2.1 (X.1.2.2.2.2 _ q7820) dX57_wide_17 ?_
  refine lv_land hx hb dX57_wide_20 ?_
  have e_9 := zL_mask (zL_m e_8) (k := 32) (mm := 4294967295) (c := 4294967296) (by decide)
  refine lv_lor hx hb dX57_wide_21 ?_
  have e_10 := zL_or e_3 (zL_m e_9)
  exact k_lret (v := ((r_1.toInt64) <<< ((32 : Int32).toInt64 &&& 63)) ||| ((r_7.toInt64) &&& 4294967295)) X hH () (by rw [show (((r_1.toInt64) <<< ((32 : Int32).toInt64 &&& 63)) ||| ((r_7.toInt64) &&& 4294967295) : Int64).toInt = _ from e_10]; exact hw) rfl dX57_wide_22
set_option maxHeartbeats 4000000 in
theorem walkX57_valueOf {l : Launch} {dC : Nat → ClassId} {dI : Nat → Nat → Nat} {cl : List vw_C} {ci : Nat} (hc : cl[ci]? = some (RX57, TX57, 22)) {ad : Nat → Nat} {d : Nat → ClassId} {sz : Nat} {f_count : Int32} {f_runs : Int32} {f_full : Int32} {f_disk : Nat → Int32} {f_later : Nat → Int32} {f_open : Nat → Int32} {f_laid : Nat → Int32} {f_places : Nat → Int32} {f_changed : Int32} {f_targets : Nat → Int32} {f_bytes : Nat → Int32} {f_first : Int32} {f_behind : Int32} {f_numbers : Nat → Int32} {f_sectors : Nat → Int64} {f_oldest : Int32} {f_newest : Int32} {f_keptNumbers : Nat → Int32} {f_keptSectors : Nat → Int64} {f_kept : Int32} {f_thrown : Int32} {f_head : Nat → Int32} {x1 : Int32} {post : Int → Prop} (hw : wpX57_valueOf post (zF f_later) (zF f_open) (zF f_laid) x1.toInt) :
    Met l yX57_valueOf (ws_ yX57_valueOf cX57_valueOf 2 (some .long)) ({ frames := 2, cells := 0, slots := 0, locals := 42 } : Room) (kPc (dC, dI) cl (tX57 d) [.ref (ad 0), .int x1] sz (wX57 ci ad d f_count f_runs f_full f_disk f_later f_open f_laid f_places f_changed f_targets f_bytes f_first f_behind f_numbers f_sectors f_oldest f_newest f_keptNumbers f_keptSectors f_kept f_thrown f_head)) (va_Ql (fun (r : Int64) (_ : Unit) => post r.toInt) (kB (dC, dI) cl (tX57 d) (va_A (wX57 ci ad d f_count f_runs f_full f_disk f_later f_open f_laid f_places f_changed f_targets f_bytes f_first f_behind f_numbers f_sectors f_oldest f_newest f_keptNumbers f_keptSectors f_kept f_thrown f_head) sz) (fun _ : Unit => (wX57 ci ad d f_count f_runs f_full f_disk f_later f_open f_laid f_places f_changed f_targets f_bytes f_first f_behind f_numbers f_sectors f_oldest f_newest f_keptNumbers f_keptSectors f_kept f_thrown f_head))) (va_A (wX57 ci ad d f_count f_runs f_full f_disk f_later f_open f_laid f_places f_changed f_targets f_bytes f_first f_behind f_numbers f_sectors f_oldest f_newest f_keptNumbers f_keptSectors f_kept f_thrown f_head) sz)) 0 0 (va_A (wX57 ci ad d f_count f_runs f_full f_disk f_later f_open f_laid f_places f_changed f_targets f_bytes f_first f_behind f_numbers f_sectors f_oldest f_newest f_keptNumbers f_keptSectors f_kept f_thrown f_head) sz) := by
  refine k_enter (by decide) (Nat.le_of_ble_eq_true rfl) ?_
  intro p e s m below meth c ls X hsz hH hl
  subst hsz
  generalize va_A (wX57 ci ad d f_count f_runs f_full f_disk f_later f_open f_laid f_places f_changed f_targets f_bytes f_first f_behind f_numbers f_sectors f_oldest f_newest f_keptNumbers f_keptSectors f_kept f_thrown f_head) s.heap.size = A at hH ⊢
  have hx := X.1.1
  have hb := X.1.2.1
  have hl : lv_has ls 2 [(0, .ref (ad 0)), (1, .int x1)] := hl
  unfold wpX57_valueOf at hw
  refine lv_aload_n hx hb dX57_valueOf_0 rfl (lv_at hl 0 rfl) ?_
  refine k_get X hH in_X57 0 rfl hc 6 (by decide) q6796 rfl dX57_valueOf_1 ?_
  refine lv_iload_n hx hb dX57_valueOf_4 rfl (lv_at hl 1 rfl) ?_
  have hq_1 := hw.1
  have hw := hw.2
  refine k_zald X hH 4 3 rfl rfl (z_in (rfl : x1.toInt = _) hq_1) dX57_valueOf_5 ?_
  have e_2 := z_ld (f := f_laid) (rfl : x1.toInt = _) hq_1.1
  refine lv_if_eq (tgt := 26) hx hb dX57_valueOf_6 (by decide) (fun c_3 => ?_) (fun c_3 => ?_)
  · have hw := hw.1 (z_eq e_2 (rfl : (0 : Int32).toInt = 0) c_3)
    refine lv_aload_n hx hb dX57_valueOf_26 rfl (lv_at hl 0 rfl) ?_
    refine k_get X hH in_X57 0 rfl hc 4 (by decide) q6794 rfl dX57_valueOf_27 ?_
    refine lv_bipush (v := 32) hx hb dX57_valueOf_30 (by decide) ?_
    refine lv_iload_n hx hb dX57_valueOf_32 rfl (lv_at hl 1 rfl) ?_
    refine lv_imul hx hb dX57_valueOf_33 ?_
    have e_4 := z_mul (z_m (rfl : (32 : Int32).toInt = 32)) (z_m (rfl : x1.toInt = _))
    refine lv_bipush (v := 8) hx hb dX57_valueOf_34 (by decide) ?_
    refine lv_iadd hx hb dX57_valueOf_36 ?_
    have e_5 := z_add e_4 (z_m (rfl : (8 : Int32).toInt = 8))
    have hq_6 := hw.1
    have hw := hw.2
    have e_7 := z_x e_5 hq_6
    refine k_l0 hH (k_runS (As := [.ref (ad 2), .int ((32 * x1) + 8)]) (rest := []) X hH.1 hH.2.1 X.2.2.2 (walkX57_wide_later hc (x1 := ((32 * x1) + 8)) (f_count := f_count) (f_runs := f_runs) (f_full := f_full) (f_disk := f_disk) (f_later := f_later) (f_open := f_open) (f_laid := f_laid) (f_places := f_places) (f_changed := f_changed) (f_targets := f_targets) (f_bytes := f_bytes) (f_first := f_first) (f_behind := f_behind) (f_numbers := f_numbers) (f_sectors := f_sectors) (f_oldest := f_oldest) (f_newest := f_newest) (f_keptNumbers := f_keptNumbers) (f_keptSectors := f_keptSectors) (f_kept := f_kept) (f_thrown := f_thrown) (f_head := f_head) (by rw [show ((32 * x1) + 8 : Int32).toInt = _ from e_7]; exact hw)) (va_cwS 2 X.1.2.2.2.2 gX57_93 rfl rfl rfl hX57_wide ⟨Nat.le_of_ble_eq_true rfl, Nat.le_of_ble_eq_true rfl⟩) rfl hl.1 rfl (Nat.le_of_ble_eq_true rfl) dX57_valueOf_37 ⟨Nat.le_refl 0, Nat.le_refl 0⟩) (fun r_8 _ H locs hw hH => ?_)
    have hH : kH (dC, dI) cl A s.heap H locs (wX57 ci ad d f_count f_runs f_full f_disk f_later f_open f_laid f_places f_changed f_targets f_bytes f_first f_behind f_numbers f_sectors f_oldest f_newest f_keptNumbers f_keptSectors f_kept f_thrown f_head) := hH
    exact k_lret (v := r_8) X hH () hw rfl dX57_valueOf_40
  · have hw := hw.2 (z_neq e_2 (rfl : (0 : Int32).toInt = 0) c_3)
    refine lv_aload_n hx hb dX57_valueOf_9 rfl (lv_at hl 0 rfl) ?_
    refine k_get X hH in_X57 0 rfl hc 5 (by decide) q6795 rfl dX57_valueOf_10 ?_
    refine lv_bipush (v := 32) hx hb dX57_valueOf_13 (by decide) ?_
    refine lv_iload_n hx hb dX57_valueOf_15 rfl (lv_at hl 1 rfl) ?_
    refine lv_imul hx hb dX57_valueOf_16 ?_
    have e_9 := z_mul (z_m (rfl : (32 : Int32).toInt = 32)) (z_m (rfl : x1.toInt = _))
    refine lv_bipush (v := 8) hx hb dX57_valueOf_17 (by decide) ?_
    refine lv_iadd hx hb dX57_valueOf_19 ?_
    have e_10 := z_add e_9 (z_m (rfl : (8 : Int32).toInt = 8))
    have hq_11 := hw.1
    have hw := hw.2
    have e_12 := z_x e_10 hq_11
    refine k_l0 hH (k_runS (As := [.ref (ad 3), .int ((32 * x1) + 8)]) (rest := []) X hH.1 hH.2.1 X.2.2.2 (walkX57_wide_open hc (x1 := ((32 * x1) + 8)) (f_count := f_count) (f_runs := f_runs) (f_full := f_full) (f_disk := f_disk) (f_later := f_later) (f_open := f_open) (f_laid := f_laid) (f_places := f_places) (f_changed := f_changed) (f_targets := f_targets) (f_bytes := f_bytes) (f_first := f_first) (f_behind := f_behind) (f_numbers := f_numbers) (f_sectors := f_sectors) (f_oldest := f_oldest) (f_newest := f_newest) (f_keptNumbers := f_keptNumbers) (f_keptSectors := f_keptSectors) (f_kept := f_kept) (f_thrown := f_thrown) (f_head := f_head) (by rw [show ((32 * x1) + 8 : Int32).toInt = _ from e_12]; exact hw)) (va_cwS 2 X.1.2.2.2.2 gX57_93 rfl rfl rfl hX57_wide ⟨Nat.le_of_ble_eq_true rfl, Nat.le_of_ble_eq_true rfl⟩) rfl hl.1 rfl (Nat.le_of_ble_eq_true rfl) dX57_valueOf_20 ⟨Nat.le_refl 0, Nat.le_refl 0⟩) (fun r_13 _ H locs hw hH => ?_)
    have hH : kH (dC, dI) cl A s.heap H locs (wX57 ci ad d f_count f_runs f_full f_disk f_later f_open f_laid f_places f_changed f_targets f_bytes f_first f_behind f_numbers f_sectors f_oldest f_newest f_keptNumbers f_keptSectors f_kept f_thrown f_head) := hH
    refine lv_goto (tgt := 40) hx hb dX57_valueOf_23 (by decide) ?_
    exact k_lret (v := r_13) X hH () hw rfl dX57_valueOf_40
set_option maxHeartbeats 4000000 in
theorem walkX57_turned {l : Launch} {dC : Nat → ClassId} {dI : Nat → Nat → Nat} {cl : List vw_C} {ci : Nat} (hc : cl[ci]? = some (RX57, TX57, 22)) {ad : Nat → Nat} {d : Nat → ClassId} {sz : Nat} {f_count : Int32} {f_runs : Int32} {f_full : Int32} {f_disk : Nat → Int32} {f_later : Nat → Int32} {f_open : Nat → Int32} {f_laid : Nat → Int32} {f_places : Nat → Int32} {f_changed : Int32} {f_targets : Nat → Int32} {f_bytes : Nat → Int32} {f_first : Int32} {f_behind : Int32} {f_numbers : Nat → Int32} {f_sectors : Nat → Int64} {f_oldest : Int32} {f_newest : Int32} {f_keptNumbers : Nat → Int32} {f_keptSectors : Nat → Int64} {f_kept : Int32} {f_thrown : Int32} {f_head : Nat → Int32} {x0 : Int64} {post : Int → Prop} (hw : wpX57_turned post  x0.toInt) :
    Met l yX57_turned (ws_ yX57_turned cX57_turned 2 (some .long)) ({ frames := 0, cells := 0, slots := 0, locals := 0 } : Room) (kPc (dC, dI) cl (tX57 d) [.long x0] sz (wX57 ci ad d f_count f_runs f_full f_disk f_later f_open f_laid f_places f_changed f_targets f_bytes f_first f_behind f_numbers f_sectors f_oldest f_newest f_keptNumbers f_keptSectors f_kept f_thrown f_head)) (va_Ql (fun (r : Int64) (_ : Unit) => post r.toInt) (kB (dC, dI) cl (tX57 d) (va_A (wX57 ci ad d f_count f_runs f_full f_disk f_later f_open f_laid f_places f_changed f_targets f_bytes f_first f_behind f_numbers f_sectors f_oldest f_newest f_keptNumbers f_keptSectors f_kept f_thrown f_head) sz) (fun _ : Unit => (wX57 ci ad d f_count f_runs f_full f_disk f_later f_open f_laid f_places f_changed f_targets f_bytes f_first f_behind f_numbers f_sectors f_oldest f_newest f_keptNumbers f_keptSectors f_kept f_thrown f_head))) (va_A (wX57 ci ad d f_count f_runs f_full f_disk f_later f_open f_laid f_places f_changed f_targets f_bytes f_first f_behind f_numbers f_sectors f_oldest f_newest f_keptNumbers f_keptSectors f_kept f_thrown f_head) sz)) 0 0 (va_A (wX57 ci ad d f_count f_runs f_full f_disk f_later f_open f_laid f_places f_changed f_targets f_bytes f_first f_behind f_numbers f_sectors f_oldest f_newest f_keptNumbers f_keptSectors f_kept f_thrown f_head) sz) := by
  refine k_enter (by decide) (Nat.le_of_ble_eq_true rfl) ?_
  intro p e s m below meth c ls X hsz hH hl
  subst hsz
  generalize va_A (wX57 ci ad d f_count f_runs f_full f_disk f_later f_open f_laid f_places f_changed f_targets f_bytes f_first f_behind f_numbers f_sectors f_oldest f_newest f_keptNumbers f_keptSectors f_kept f_thrown f_head) s.heap.size = A at hH ⊢
  have hx := X.1.1
  have hb := X.1.2.1
  have hl : lv_has ls 2 [(0, .long x0)] := hl
  unfold wpX57_turned at hw
  refine lv_lload_n hx hb dX57_turned_0 rfl (lv_at hl 0 rfl) ?_
  refine lv_bipush (v := 9) hx hb dX57_turned_1 (by decide) ?_
  refine lv_lshl (v := x0 <<< ((9 : Int32).toInt64 &&& 63)) hx hb dX57_turned_3 rfl ?_
  have e_1 := zL_shl (zL_m (rfl : x0.toInt = _)) (k := 9) (m := 9) (c := 512) (by decide)
  refine lv_lload_n hx hb dX57_turned_4 rfl (lv_at hl 0 rfl) ?_
  refine lv_bipush (v := 55) hx hb dX57_turned_5 (by decide) ?_
  refine lv_lushr (v := (x0.toUInt64 >>> ((55 : Int32).toInt64.toUInt64 &&& Int64.toUInt64 63)).toInt64) hx hb dX57_turned_7 rfl ?_
  have e_2 := zL_ushr (rfl : x0.toInt = _) (k := 55) (m := 55) (c := 36028797018963968) (by decide) (by decide)
  refine lv_lor hx hb dX57_turned_8 ?_
  have e_3 := zL_or e_1 (zL_m e_2)
  refine lv_ldc2 (v := 25214903917) hx hb X.1.2.2.2.1 (X.1.2.2.2.2 _ q7824) dX57_turned_9 ?_
  refine lv_lxor hx hb dX57_turned_12 ?_
  have e_4 := zL_xor (zL_m e_3) (zL_m (rfl : (25214903917 : Int64).toInt = 25214903917))
  exact k_lret (v := ((x0 <<< ((9 : Int32).toInt64 &&& 63)) ||| ((x0.toUInt64 >>> ((55 : Int32).toInt64.toUInt64 &&& Int64.toUInt64 63)).toInt64)) ^^^ 25214903917) X hH () (by rw [show (((x0 <<< ((9 : Int32).toInt64 &&& 63)) ||| ((x0.toUInt64 >>> ((55 : Int32).toInt64.toUInt64 &&& Int64.toUInt64 63)).toInt64)) ^^^ 25214903917 : Int64).toInt = _ from e_4]; exact hw) rfl dX57_turned_13
set_option maxHeartbeats 4000000 in
theorem atX57_isOpen_4 {p : Program} {l : Launch} {e : Env} {s : State} {m : MethodId} {args : Array Value} {below : List Frame} {meth : Method} {c : Code} {dC : Nat → ClassId} {dI : Nat → Nat → Nat} {cl : List vw_C} {ci : Nat} (hc : cl[ci]? = some (RX57, TX57, 22)) {ad : Nat → Nat} {d : Nat → ClassId} {A : Nat → Prop} {post : Int → Prop} {f_count : Int32} {f_runs : Int32} {f_full : Int32} {f_disk : Nat → Int32} {f_later : Nat → Int32} {f_open : Nat → Int32} {f_laid : Nat → Int32} {f_places : Nat → Int32} {f_changed : Int32} {f_targets : Nat → Int32} {f_bytes : Nat → Int32} {f_first : Int32} {f_behind : Int32} {f_numbers : Nat → Int32} {f_sectors : Nat → Int64} {f_oldest : Int32} {f_newest : Int32} {f_keptNumbers : Nat → Int32} {f_keptSectors : Nat → Int64} {f_kept : Int32} {f_thrown : Int32} {f_head : Nat → Int32} (X : kX p s m args meth c cX57_isOpen 4 RX57 (some .boolean) (dC, dI) cl (tX57 d)) {K36 : Int → Prop} {x1 : Int32}  (hk36 : ∀ (x2 : Int32), K36 x2.toInt → ∀ (H : Heap) (locs : List Loc) (ls : Array Slot), kH (dC, dI) cl A s.heap H locs (wX57 ci ad d f_count f_runs f_full f_disk f_later f_open f_laid f_places f_changed f_targets f_bytes f_first f_behind f_numbers f_sectors f_oldest f_newest f_keptNumbers f_keptSectors f_kept f_thrown f_head) → lv_has ls 4 [(2, .int x2)] → W p l e ({ frames := 0, cells := 0, slots := 0, locals := 0 } : Room) s m args below meth c H locs 0 0 (MQ below (va_Qi (fun (r : Int32) (_ : Unit) => post r.toInt) (kB (dC, dI) cl (tX57 d) A (fun _ : Unit => (wX57 ci ad d f_count f_runs f_full f_disk f_later f_open f_laid f_places f_changed f_targets f_bytes f_first f_behind f_numbers f_sectors f_oldest f_newest f_keptNumbers f_keptSectors f_kept f_thrown f_head))) A) args s 0 0 A) (F0 m 36 ls [])) :
    ∀ (nn : Nat) (x2 : Int32) (x3 : Int32), wX57_isOpen_4 K36 x1.toInt (zF f_places) nn x2.toInt x3.toInt → ∀ (H : Heap) (locs : List Loc) (ls : Array Slot), kH (dC, dI) cl A s.heap H locs (wX57 ci ad d f_count f_runs f_full f_disk f_later f_open f_laid f_places f_changed f_targets f_bytes f_first f_behind f_numbers f_sectors f_oldest f_newest f_keptNumbers f_keptSectors f_kept f_thrown f_head) → lv_has ls 4 [(0, .ref (ad 0)), (1, .int x1), (2, .int x2), (3, .int x3)] → W p l e ({ frames := 0, cells := 0, slots := 0, locals := 0 } : Room) s m args below meth c H locs 0 0 (MQ below (va_Qi (fun (r : Int32) (_ : Unit) => post r.toInt) (kB (dC, dI) cl (tX57 d) A (fun _ : Unit => (wX57 ci ad d f_count f_runs f_full f_disk f_later f_open f_laid f_places f_changed f_targets f_bytes f_first f_behind f_numbers f_sectors f_oldest f_newest f_keptNumbers f_keptSectors f_kept f_thrown f_head))) A) args s 0 0 A) (F0 m 4 ls []) := by
  have hx := X.1.1
  have hb := X.1.2.1
  intro nn
  induction nn with
  | zero =>
    intro x2 x3 hw
    exact False.elim hw
  | succ n ih =>
    intro x2 x3 hw H locs ls hH hl
    rw [wX57_isOpen_4] at hw
    refine lv_iload_n hx hb dX57_isOpen_4 rfl (lv_at hl 3 rfl) ?_
    refine lv_bipush (v := 30) hx hb dX57_isOpen_5 (by decide) ?_
    refine lv_icmp_ge (tgt := 36) hx hb dX57_isOpen_7 (by decide) (fun c_1 => ?_) (fun c_1 => ?_)
    · have hw := hw.1 (z_le (rfl : (30 : Int32).toInt = 30) (rfl : x3.toInt = _) c_1)
      exact hk36 x2 hw _ _ ls hH (lv_sub hl [2] rfl)
    · have hw := hw.2 (z_nle (rfl : (30 : Int32).toInt = 30) (rfl : x3.toInt = _) c_1)
      refine lv_iload_n hx hb dX57_isOpen_10 rfl (lv_at hl 2 rfl) ?_
      refine lv_if_ne (tgt := 24) hx hb dX57_isOpen_11 (by decide) (fun c_2 => ?_) (fun c_2 => ?_)
      · have hw := hw.2 (z_ne (rfl : x2.toInt = _) (rfl : (0 : Int32).toInt = 0) c_2)
        refine lv_iconst (v := 1) hx hb dX57_isOpen_24 (by decide) ?_
        refine lv_goto (tgt := 29) hx hb dX57_isOpen_25 (by decide) ?_
        refine lv_istore_n (lv' := [(2, .int 1), (0, .ref (ad 0)), (1, .int x1), (3, .int x3)]) hx hb dX57_isOpen_29 rfl hl (by decide) rfl (fun ls hl => ?_)
        have hq_4 := hw.1
        have hw := hw.2
        obtain ⟨x3_3, ex3_3⟩ : ∃ y : Int32, y = x3 + 1 := ⟨_, rfl⟩
        have hw := hw x3_3.toInt (by rw [ex3_3]; exact (z_x (z_add (z_m (rfl : x3.toInt = _)) (z_m (rfl : (1 : Int32).toInt = 1))) hq_4))
        refine lv_iinc (v := x3_3) (lv' := [(3, .int x3_3), (2, .int 1), (0, .ref (ad 0)), (1, .int x1)]) hx hb dX57_isOpen_30 hl (k := 3) rfl (by rw [ex3_3]; rfl) (by decide) rfl (fun ls hl => ?_)
        refine lv_goto (tgt := 4) hx hb dX57_isOpen_33 (by decide) ?_
        exact ih 1 x3_3 hw _ _ ls hH (lv_sub hl [2, 3, 1, 0] rfl)
      · have hw := hw.1 (z_eq (rfl : x2.toInt = _) (rfl : (0 : Int32).toInt = 0) c_2)
        refine lv_aload_n hx hb dX57_isOpen_14 rfl (lv_at hl 0 rfl) ?_
        refine k_get X hH in_X57 0 rfl hc 7 (by decide) q6797 rfl dX57_isOpen_15 ?_
        refine lv_iload_n hx hb dX57_isOpen_18 rfl (lv_at hl 3 rfl) ?_
        have hq_5 := hw.1
        have hw := hw.2
        refine k_iald X hH 5 4 rfl rfl (z_in (rfl : x3.toInt = _) hq_5) dX57_isOpen_19 ?_
        have e_6 := z_ld (f := f_places) (rfl : x3.toInt = _) hq_5.1
        refine lv_iload_n hx hb dX57_isOpen_20 rfl (lv_at hl 1 rfl) ?_
        refine lv_icmp_ne (tgt := 28) hx hb dX57_isOpen_21 (by decide) (fun c_7 => ?_) (fun c_7 => ?_)
        · have hw := hw.2 (z_ne e_6 (rfl : x1.toInt = _) c_7)
          refine lv_iconst (v := 0) hx hb dX57_isOpen_28 (by decide) ?_
          refine lv_istore_n (lv' := [(2, .int 0), (0, .ref (ad 0)), (1, .int x1), (3, .int x3)]) hx hb dX57_isOpen_29 rfl hl (by decide) rfl (fun ls hl => ?_)
          have hq_9 := hw.1
          have hw := hw.2
          obtain ⟨x3_8, ex3_8⟩ : ∃ y : Int32, y = x3 + 1 := ⟨_, rfl⟩
          have hw := hw x3_8.toInt (by rw [ex3_8]; exact (z_x (z_add (z_m (rfl : x3.toInt = _)) (z_m (rfl : (1 : Int32).toInt = 1))) hq_9))
          refine lv_iinc (v := x3_8) (lv' := [(3, .int x3_8), (2, .int 0), (0, .ref (ad 0)), (1, .int x1)]) hx hb dX57_isOpen_30 hl (k := 3) rfl (by rw [ex3_8]; rfl) (by decide) rfl (fun ls hl => ?_)
          refine lv_goto (tgt := 4) hx hb dX57_isOpen_33 (by decide) ?_
          exact ih 0 x3_8 hw _ _ ls hH (lv_sub hl [2, 3, 1, 0] rfl)
        · have hw := hw.1 (z_eq e_6 (rfl : x1.toInt = _) c_7)
          refine lv_iconst (v := 1) hx hb dX57_isOpen_24 (by decide) ?_
          refine lv_goto (tgt := 29) hx hb dX57_isOpen_25 (by decide) ?_
          refine lv_istore_n (lv' := [(2, .int 1), (0, .ref (ad 0)), (1, .int x1), (3, .int x3)]) hx hb dX57_isOpen_29 rfl hl (by decide) rfl (fun ls hl => ?_)
          have hq_11 := hw.1
          have hw := hw.2
          obtain ⟨x3_10, ex3_10⟩ : ∃ y : Int32, y = x3 + 1 := ⟨_, rfl⟩
          have hw := hw x3_10.toInt (by rw [ex3_10]; exact (z_x (z_add (z_m (rfl : x3.toInt = _)) (z_m (rfl : (1 : Int32).toInt = 1))) hq_11))
          refine lv_iinc (v := x3_10) (lv' := [(3, .int x3_10), (2, .int 1), (0, .ref (ad 0)), (1, .int x1)]) hx hb dX57_isOpen_30 hl (k := 3) rfl (by rw [ex3_10]; rfl) (by decide) rfl (fun ls hl => ?_)
          refine lv_goto (tgt := 4) hx hb dX57_isOpen_33 (by decide) ?_
          exact ih 1 x3_10 hw _ _ ls hH (lv_sub hl [2, 3, 1, 0] rfl)
set_option maxHeartbeats 4000000 in
theorem walkX57_isOpen {l : Launch} {dC : Nat → ClassId} {dI : Nat → Nat → Nat} {cl : List vw_C} {ci : Nat} (hc : cl[ci]? = some (RX57, TX57, 22)) {ad : Nat → Nat} {d : Nat → ClassId} {sz : Nat} {f_count : Int32} {f_runs : Int32} {f_full : Int32} {f_disk : Nat → Int32} {f_later : Nat → Int32} {f_open : Nat → Int32} {f_laid : Nat → Int32} {f_places : Nat → Int32} {f_changed : Int32} {f_targets : Nat → Int32} {f_bytes : Nat → Int32} {f_first : Int32} {f_behind : Int32} {f_numbers : Nat → Int32} {f_sectors : Nat → Int64} {f_oldest : Int32} {f_newest : Int32} {f_keptNumbers : Nat → Int32} {f_keptSectors : Nat → Int64} {f_kept : Int32} {f_thrown : Int32} {f_head : Nat → Int32} {x1 : Int32} {post : Int → Prop} (hw : wpX57_isOpen post (zF f_places) x1.toInt) :
    Met l yX57_isOpen (ws_ yX57_isOpen cX57_isOpen 4 (some .boolean)) ({ frames := 0, cells := 0, slots := 0, locals := 0 } : Room) (kPc (dC, dI) cl (tX57 d) [.ref (ad 0), .int x1] sz (wX57 ci ad d f_count f_runs f_full f_disk f_later f_open f_laid f_places f_changed f_targets f_bytes f_first f_behind f_numbers f_sectors f_oldest f_newest f_keptNumbers f_keptSectors f_kept f_thrown f_head)) (va_Qi (fun (r : Int32) (_ : Unit) => post r.toInt) (kB (dC, dI) cl (tX57 d) (va_A (wX57 ci ad d f_count f_runs f_full f_disk f_later f_open f_laid f_places f_changed f_targets f_bytes f_first f_behind f_numbers f_sectors f_oldest f_newest f_keptNumbers f_keptSectors f_kept f_thrown f_head) sz) (fun _ : Unit => (wX57 ci ad d f_count f_runs f_full f_disk f_later f_open f_laid f_places f_changed f_targets f_bytes f_first f_behind f_numbers f_sectors f_oldest f_newest f_keptNumbers f_keptSectors f_kept f_thrown f_head))) (va_A (wX57 ci ad d f_count f_runs f_full f_disk f_later f_open f_laid f_places f_changed f_targets f_bytes f_first f_behind f_numbers f_sectors f_oldest f_newest f_keptNumbers f_keptSectors f_kept f_thrown f_head) sz)) 0 0 (va_A (wX57 ci ad d f_count f_runs f_full f_disk f_later f_open f_laid f_places f_changed f_targets f_bytes f_first f_behind f_numbers f_sectors f_oldest f_newest f_keptNumbers f_keptSectors f_kept f_thrown f_head) sz) := by
  refine k_enter (by decide) (Nat.le_of_ble_eq_true rfl) ?_
  intro p e s m below meth c ls X hsz hH hl
  subst hsz
  generalize va_A (wX57 ci ad d f_count f_runs f_full f_disk f_later f_open f_laid f_places f_changed f_targets f_bytes f_first f_behind f_numbers f_sectors f_oldest f_newest f_keptNumbers f_keptSectors f_kept f_thrown f_head) s.heap.size = A at hH ⊢
  have hx := X.1.1
  have hb := X.1.2.1
  have hl : lv_has ls 4 [(0, .ref (ad 0)), (1, .int x1)] := hl
  unfold wpX57_isOpen at hw
  refine lv_iconst (v := 0) hx hb dX57_isOpen_0 (by decide) ?_
  refine lv_istore_n (lv' := [(2, .int 0), (0, .ref (ad 0)), (1, .int x1)]) hx hb dX57_isOpen_1 rfl hl (by decide) rfl (fun ls hl => ?_)
  refine lv_iconst (v := 0) hx hb dX57_isOpen_2 (by decide) ?_
  refine lv_istore_n (lv' := [(3, .int 0), (2, .int 0), (0, .ref (ad 0)), (1, .int x1)]) hx hb dX57_isOpen_3 rfl hl (by decide) rfl (fun ls hl => ?_)
  obtain ⟨fu, hw⟩ := hw
  refine atX57_isOpen_4 hc X ?_ fu 0 0 hw _ _ ls hH (lv_sub hl [2, 3, 1, 0] rfl)
  · intro x2_12 hw H locs ls hH hl
    refine lv_iload_n hx hb dX57_isOpen_36 rfl (lv_at hl 0 rfl) ?_
    have hq_13 := hw.1
    have hw := hw.2
    exact k_iret (v := x2_12) X hH () hw rfl (k_zn (z_boolE (rfl : x2_12.toInt = _) hq_13)) dX57_isOpen_37
set_option maxHeartbeats 4000000 in
theorem atX57_isWaiting_7 {p : Program} {l : Launch} {e : Env} {s : State} {m : MethodId} {args : Array Value} {below : List Frame} {meth : Method} {c : Code} {dC : Nat → ClassId} {dI : Nat → Nat → Nat} {cl : List vw_C} {ci : Nat} (hc : cl[ci]? = some (RX57, TX57, 22)) {ad : Nat → Nat} {d : Nat → ClassId} {A : Nat → Prop} {post : Int → Prop} {f_count : Int32} {f_runs : Int32} {f_full : Int32} {f_disk : Nat → Int32} {f_later : Nat → Int32} {f_open : Nat → Int32} {f_laid : Nat → Int32} {f_places : Nat → Int32} {f_changed : Int32} {f_targets : Nat → Int32} {f_bytes : Nat → Int32} {f_first : Int32} {f_behind : Int32} {f_numbers : Nat → Int32} {f_sectors : Nat → Int64} {f_oldest : Int32} {f_newest : Int32} {f_keptNumbers : Nat → Int32} {f_keptSectors : Nat → Int64} {f_kept : Int32} {f_thrown : Int32} {f_head : Nat → Int32} (X : kX p s m args meth c cX57_isWaiting 4 RX57 (some .boolean) (dC, dI) cl (tX57 d)) {K41 : Int → Prop} {x1 : Int32}  (hk41 : ∀ (x2 : Int32), K41 x2.toInt → ∀ (H : Heap) (locs : List Loc) (ls : Array Slot), kH (dC, dI) cl A s.heap H locs (wX57 ci ad d f_count f_runs f_full f_disk f_later f_open f_laid f_places f_changed f_targets f_bytes f_first f_behind f_numbers f_sectors f_oldest f_newest f_keptNumbers f_keptSectors f_kept f_thrown f_head) → lv_has ls 4 [(2, .int x2)] → W p l e ({ frames := 0, cells := 0, slots := 0, locals := 0 } : Room) s m args below meth c H locs 0 0 (MQ below (va_Qi (fun (r : Int32) (_ : Unit) => post r.toInt) (kB (dC, dI) cl (tX57 d) A (fun _ : Unit => (wX57 ci ad d f_count f_runs f_full f_disk f_later f_open f_laid f_places f_changed f_targets f_bytes f_first f_behind f_numbers f_sectors f_oldest f_newest f_keptNumbers f_keptSectors f_kept f_thrown f_head))) A) args s 0 0 A) (F0 m 41 ls [])) :
    ∀ (nn : Nat) (x2 : Int32) (x3 : Int32), wX57_isWaiting_7 K41 x1.toInt (zF f_targets) f_behind.toInt nn x2.toInt x3.toInt → ∀ (H : Heap) (locs : List Loc) (ls : Array Slot), kH (dC, dI) cl A s.heap H locs (wX57 ci ad d f_count f_runs f_full f_disk f_later f_open f_laid f_places f_changed f_targets f_bytes f_first f_behind f_numbers f_sectors f_oldest f_newest f_keptNumbers f_keptSectors f_kept f_thrown f_head) → lv_has ls 4 [(0, .ref (ad 0)), (1, .int x1), (2, .int x2), (3, .int x3)] → W p l e ({ frames := 0, cells := 0, slots := 0, locals := 0 } : Room) s m args below meth c H locs 0 0 (MQ below (va_Qi (fun (r : Int32) (_ : Unit) => post r.toInt) (kB (dC, dI) cl (tX57 d) A (fun _ : Unit => (wX57 ci ad d f_count f_runs f_full f_disk f_later f_open f_laid f_places f_changed f_targets f_bytes f_first f_behind f_numbers f_sectors f_oldest f_newest f_keptNumbers f_keptSectors f_kept f_thrown f_head))) A) args s 0 0 A) (F0 m 7 ls []) := by
  have hx := X.1.1
  have hb := X.1.2.1
  intro nn
  induction nn with
  | zero =>
    intro x2 x3 hw
    exact False.elim hw
  | succ n ih =>
    intro x2 x3 hw H locs ls hH hl
    rw [wX57_isWaiting_7] at hw
    refine lv_iload_n hx hb dX57_isWaiting_7 rfl (lv_at hl 3 rfl) ?_
    refine lv_aload_n hx hb dX57_isWaiting_8 rfl (lv_at hl 0 rfl) ?_
    refine k_get X hH in_X57 0 rfl hc 12 (by decide) q6802 rfl dX57_isWaiting_9 ?_
    refine lv_icmp_ge (tgt := 41) hx hb dX57_isWaiting_12 (by decide) (fun c_1 => ?_) (fun c_1 => ?_)
    · have hw := hw.1 (z_le (rfl : f_behind.toInt = _) (rfl : x3.toInt = _) c_1)
      exact hk41 x2 hw _ _ ls hH (lv_sub hl [2] rfl)
    · have hw := hw.2 (z_nle (rfl : f_behind.toInt = _) (rfl : x3.toInt = _) c_1)
      refine lv_iload_n hx hb dX57_isWaiting_15 rfl (lv_at hl 2 rfl) ?_
      refine lv_if_ne (tgt := 29) hx hb dX57_isWaiting_16 (by decide) (fun c_2 => ?_) (fun c_2 => ?_)
      · have hw := hw.2 (z_ne (rfl : x2.toInt = _) (rfl : (0 : Int32).toInt = 0) c_2)
        refine lv_iconst (v := 1) hx hb dX57_isWaiting_29 (by decide) ?_
        refine lv_goto (tgt := 34) hx hb dX57_isWaiting_30 (by decide) ?_
        refine lv_istore_n (lv' := [(2, .int 1), (0, .ref (ad 0)), (1, .int x1), (3, .int x3)]) hx hb dX57_isWaiting_34 rfl hl (by decide) rfl (fun ls hl => ?_)
        have hq_4 := hw.1
        have hw := hw.2
        obtain ⟨x3_3, ex3_3⟩ : ∃ y : Int32, y = x3 + 1 := ⟨_, rfl⟩
        have hw := hw x3_3.toInt (by rw [ex3_3]; exact (z_x (z_add (z_m (rfl : x3.toInt = _)) (z_m (rfl : (1 : Int32).toInt = 1))) hq_4))
        refine lv_iinc (v := x3_3) (lv' := [(3, .int x3_3), (2, .int 1), (0, .ref (ad 0)), (1, .int x1)]) hx hb dX57_isWaiting_35 hl (k := 3) rfl (by rw [ex3_3]; rfl) (by decide) rfl (fun ls hl => ?_)
        refine lv_goto (tgt := 7) hx hb dX57_isWaiting_38 (by decide) ?_
        exact ih 1 x3_3 hw _ _ ls hH (lv_sub hl [2, 3, 1, 0] rfl)
      · have hw := hw.1 (z_eq (rfl : x2.toInt = _) (rfl : (0 : Int32).toInt = 0) c_2)
        refine lv_aload_n hx hb dX57_isWaiting_19 rfl (lv_at hl 0 rfl) ?_
        refine k_get X hH in_X57 0 rfl hc 9 (by decide) q6799 rfl dX57_isWaiting_20 ?_
        refine lv_iload_n hx hb dX57_isWaiting_23 rfl (lv_at hl 3 rfl) ?_
        have hq_5 := hw.1
        have hw := hw.2
        refine k_iald X hH 6 5 rfl rfl (z_in (rfl : x3.toInt = _) hq_5) dX57_isWaiting_24 ?_
        have e_6 := z_ld (f := f_targets) (rfl : x3.toInt = _) hq_5.1
        refine lv_iload_n hx hb dX57_isWaiting_25 rfl (lv_at hl 1 rfl) ?_
        refine lv_icmp_ne (tgt := 33) hx hb dX57_isWaiting_26 (by decide) (fun c_7 => ?_) (fun c_7 => ?_)
        · have hw := hw.2 (z_ne e_6 (rfl : x1.toInt = _) c_7)
          refine lv_iconst (v := 0) hx hb dX57_isWaiting_33 (by decide) ?_
          refine lv_istore_n (lv' := [(2, .int 0), (0, .ref (ad 0)), (1, .int x1), (3, .int x3)]) hx hb dX57_isWaiting_34 rfl hl (by decide) rfl (fun ls hl => ?_)
          have hq_9 := hw.1
          have hw := hw.2
          obtain ⟨x3_8, ex3_8⟩ : ∃ y : Int32, y = x3 + 1 := ⟨_, rfl⟩
          have hw := hw x3_8.toInt (by rw [ex3_8]; exact (z_x (z_add (z_m (rfl : x3.toInt = _)) (z_m (rfl : (1 : Int32).toInt = 1))) hq_9))
          refine lv_iinc (v := x3_8) (lv' := [(3, .int x3_8), (2, .int 0), (0, .ref (ad 0)), (1, .int x1)]) hx hb dX57_isWaiting_35 hl (k := 3) rfl (by rw [ex3_8]; rfl) (by decide) rfl (fun ls hl => ?_)
          refine lv_goto (tgt := 7) hx hb dX57_isWaiting_38 (by decide) ?_
          exact ih 0 x3_8 hw _ _ ls hH (lv_sub hl [2, 3, 1, 0] rfl)
        · have hw := hw.1 (z_eq e_6 (rfl : x1.toInt = _) c_7)
          refine lv_iconst (v := 1) hx hb dX57_isWaiting_29 (by decide) ?_
          refine lv_goto (tgt := 34) hx hb dX57_isWaiting_30 (by decide) ?_
          refine lv_istore_n (lv' := [(2, .int 1), (0, .ref (ad 0)), (1, .int x1), (3, .int x3)]) hx hb dX57_isWaiting_34 rfl hl (by decide) rfl (fun ls hl => ?_)
          have hq_11 := hw.1
          have hw := hw.2
          obtain ⟨x3_10, ex3_10⟩ : ∃ y : Int32, y = x3 + 1 := ⟨_, rfl⟩
          have hw := hw x3_10.toInt (by rw [ex3_10]; exact (z_x (z_add (z_m (rfl : x3.toInt = _)) (z_m (rfl : (1 : Int32).toInt = 1))) hq_11))
          refine lv_iinc (v := x3_10) (lv' := [(3, .int x3_10), (2, .int 1), (0, .ref (ad 0)), (1, .int x1)]) hx hb dX57_isWaiting_35 hl (k := 3) rfl (by rw [ex3_10]; rfl) (by decide) rfl (fun ls hl => ?_)
          refine lv_goto (tgt := 7) hx hb dX57_isWaiting_38 (by decide) ?_
          exact ih 1 x3_10 hw _ _ ls hH (lv_sub hl [2, 3, 1, 0] rfl)
set_option maxHeartbeats 4000000 in
theorem walkX57_isWaiting {l : Launch} {dC : Nat → ClassId} {dI : Nat → Nat → Nat} {cl : List vw_C} {ci : Nat} (hc : cl[ci]? = some (RX57, TX57, 22)) {ad : Nat → Nat} {d : Nat → ClassId} {sz : Nat} {f_count : Int32} {f_runs : Int32} {f_full : Int32} {f_disk : Nat → Int32} {f_later : Nat → Int32} {f_open : Nat → Int32} {f_laid : Nat → Int32} {f_places : Nat → Int32} {f_changed : Int32} {f_targets : Nat → Int32} {f_bytes : Nat → Int32} {f_first : Int32} {f_behind : Int32} {f_numbers : Nat → Int32} {f_sectors : Nat → Int64} {f_oldest : Int32} {f_newest : Int32} {f_keptNumbers : Nat → Int32} {f_keptSectors : Nat → Int64} {f_kept : Int32} {f_thrown : Int32} {f_head : Nat → Int32} {x1 : Int32} {post : Int → Prop} (hw : wpX57_isWaiting post (zF f_targets) f_first.toInt f_behind.toInt x1.toInt) :
    Met l yX57_isWaiting (ws_ yX57_isWaiting cX57_isWaiting 4 (some .boolean)) ({ frames := 0, cells := 0, slots := 0, locals := 0 } : Room) (kPc (dC, dI) cl (tX57 d) [.ref (ad 0), .int x1] sz (wX57 ci ad d f_count f_runs f_full f_disk f_later f_open f_laid f_places f_changed f_targets f_bytes f_first f_behind f_numbers f_sectors f_oldest f_newest f_keptNumbers f_keptSectors f_kept f_thrown f_head)) (va_Qi (fun (r : Int32) (_ : Unit) => post r.toInt) (kB (dC, dI) cl (tX57 d) (va_A (wX57 ci ad d f_count f_runs f_full f_disk f_later f_open f_laid f_places f_changed f_targets f_bytes f_first f_behind f_numbers f_sectors f_oldest f_newest f_keptNumbers f_keptSectors f_kept f_thrown f_head) sz) (fun _ : Unit => (wX57 ci ad d f_count f_runs f_full f_disk f_later f_open f_laid f_places f_changed f_targets f_bytes f_first f_behind f_numbers f_sectors f_oldest f_newest f_keptNumbers f_keptSectors f_kept f_thrown f_head))) (va_A (wX57 ci ad d f_count f_runs f_full f_disk f_later f_open f_laid f_places f_changed f_targets f_bytes f_first f_behind f_numbers f_sectors f_oldest f_newest f_keptNumbers f_keptSectors f_kept f_thrown f_head) sz)) 0 0 (va_A (wX57 ci ad d f_count f_runs f_full f_disk f_later f_open f_laid f_places f_changed f_targets f_bytes f_first f_behind f_numbers f_sectors f_oldest f_newest f_keptNumbers f_keptSectors f_kept f_thrown f_head) sz) := by
  refine k_enter (by decide) (Nat.le_of_ble_eq_true rfl) ?_
  intro p e s m below meth c ls X hsz hH hl
  subst hsz
  generalize va_A (wX57 ci ad d f_count f_runs f_full f_disk f_later f_open f_laid f_places f_changed f_targets f_bytes f_first f_behind f_numbers f_sectors f_oldest f_newest f_keptNumbers f_keptSectors f_kept f_thrown f_head) s.heap.size = A at hH ⊢
  have hx := X.1.1
  have hb := X.1.2.1
  have hl : lv_has ls 4 [(0, .ref (ad 0)), (1, .int x1)] := hl
  unfold wpX57_isWaiting at hw
  refine lv_iconst (v := 0) hx hb dX57_isWaiting_0 (by decide) ?_
  refine lv_istore_n (lv' := [(2, .int 0), (0, .ref (ad 0)), (1, .int x1)]) hx hb dX57_isWaiting_1 rfl hl (by decide) rfl (fun ls hl => ?_)
  refine lv_aload_n hx hb dX57_isWaiting_2 rfl (lv_at hl 1 rfl) ?_
  refine k_get X hH in_X57 0 rfl hc 11 (by decide) q6801 rfl dX57_isWaiting_3 ?_
  refine lv_istore_n (lv' := [(3, .int f_first), (2, .int 0), (0, .ref (ad 0)), (1, .int x1)]) hx hb dX57_isWaiting_6 rfl hl (by decide) rfl (fun ls hl => ?_)
  obtain ⟨fu, hw⟩ := hw
  refine atX57_isWaiting_7 hc X ?_ fu 0 f_first hw _ _ ls hH (lv_sub hl [2, 3, 1, 0] rfl)
  · intro x2_12 hw H locs ls hH hl
    refine lv_iload_n hx hb dX57_isWaiting_41 rfl (lv_at hl 0 rfl) ?_
    have hq_13 := hw.1
    have hw := hw.2
    exact k_iret (v := x2_12) X hH () hw rfl (k_zn (z_boolE (rfl : x2_12.toInt = _) hq_13)) dX57_isWaiting_42
set_option maxHeartbeats 4000000 in
theorem atX57_isHeld_27 {p : Program} {l : Launch} {e : Env} {s : State} {m : MethodId} {args : Array Value} {below : List Frame} {meth : Method} {c : Code} {dC : Nat → ClassId} {dI : Nat → Nat → Nat} {cl : List vw_C} {ci : Nat} (hc : cl[ci]? = some (RX57, TX57, 22)) {ad : Nat → Nat} {d : Nat → ClassId} {A : Nat → Prop} {post : Int → Prop} {f_count : Int32} {f_runs : Int32} {f_full : Int32} {f_disk : Nat → Int32} {f_later : Nat → Int32} {f_open : Nat → Int32} {f_laid : Nat → Int32} {f_places : Nat → Int32} {f_changed : Int32} {f_targets : Nat → Int32} {f_bytes : Nat → Int32} {f_first : Int32} {f_behind : Int32} {f_numbers : Nat → Int32} {f_sectors : Nat → Int64} {f_oldest : Int32} {f_newest : Int32} {f_keptNumbers : Nat → Int32} {f_keptSectors : Nat → Int64} {f_kept : Int32} {f_thrown : Int32} {f_head : Nat → Int32} (X : kX p s m args meth c cX57_isHeld 4 RX57 (some .boolean) (dC, dI) cl (tX57 d)) {K66 : Int → Prop} {x1 : Int32}  (hk66 : ∀ (x2 : Int32), K66 x2.toInt → ∀ (H : Heap) (locs : List Loc) (ls : Array Slot), kH (dC, dI) cl A s.heap H locs (wX57 ci ad d f_count f_runs f_full f_disk f_later f_open f_laid f_places f_changed f_targets f_bytes f_first f_behind f_numbers f_sectors f_oldest f_newest f_keptNumbers f_keptSectors f_kept f_thrown f_head) → lv_has ls 4 [(0, .ref (ad 0)), (1, .int x1), (2, .int x2)] → W p l e ({ frames := 1, cells := 0, slots := 0, locals := 23 } : Room) s m args below meth c H locs 0 0 (MQ below (va_Qi (fun (r : Int32) (_ : Unit) => post r.toInt) (kB (dC, dI) cl (tX57 d) A (fun _ : Unit => (wX57 ci ad d f_count f_runs f_full f_disk f_later f_open f_laid f_places f_changed f_targets f_bytes f_first f_behind f_numbers f_sectors f_oldest f_newest f_keptNumbers f_keptSectors f_kept f_thrown f_head))) A) args s 0 0 A) (F0 m 66 ls [])) :
    ∀ (nn : Nat) (x2 : Int32) (x3 : Int32), wX57_isHeld_27 K66 x1.toInt (zG f_sectors) f_newest.toInt nn x2.toInt x3.toInt → ∀ (H : Heap) (locs : List Loc) (ls : Array Slot), kH (dC, dI) cl A s.heap H locs (wX57 ci ad d f_count f_runs f_full f_disk f_later f_open f_laid f_places f_changed f_targets f_bytes f_first f_behind f_numbers f_sectors f_oldest f_newest f_keptNumbers f_keptSectors f_kept f_thrown f_head) → lv_has ls 4 [(0, .ref (ad 0)), (1, .int x1), (2, .int x2), (3, .int x3)] → W p l e ({ frames := 1, cells := 0, slots := 0, locals := 23 } : Room) s m args below meth c H locs 0 0 (MQ below (va_Qi (fun (r : Int32) (_ : Unit) => post r.toInt) (kB (dC, dI) cl (tX57 d) A (fun _ : Unit => (wX57 ci ad d f_count f_runs f_full f_disk f_later f_open f_laid f_places f_changed f_targets f_bytes f_first f_behind f_numbers f_sectors f_oldest f_newest f_keptNumbers f_keptSectors f_kept f_thrown f_head))) A) args s 0 0 A) (F0 m 27 ls []) := by
  have hx := X.1.1
  have hb := X.1.2.1
  intro nn
  induction nn with
  | zero =>
    intro x2 x3 hw
    exact False.elim hw
  | succ n ih =>
    intro x2 x3 hw H locs ls hH hl
    rw [wX57_isHeld_27] at hw
    refine lv_iload_n hx hb dX57_isHeld_27 rfl (lv_at hl 3 rfl) ?_
    refine lv_aload_n hx hb dX57_isHeld_28 rfl (lv_at hl 0 rfl) ?_
    refine k_get X hH in_X57 0 rfl hc 16 (by decide) q6806 rfl dX57_isHeld_29 ?_
    refine lv_icmp_gt (tgt := 66) hx hb dX57_isHeld_32 (by decide) (fun c_3 => ?_) (fun c_3 => ?_)
    · have hw := hw.1 (z_lt (rfl : f_newest.toInt = _) (rfl : x3.toInt = _) c_3)
      exact hk66 x2 hw _ _ ls hH (lv_sub hl [0, 1, 2] rfl)
    · have hw := hw.2 (z_nlt (rfl : f_newest.toInt = _) (rfl : x3.toInt = _) c_3)
      refine lv_iload_n hx hb dX57_isHeld_35 rfl (lv_at hl 2 rfl) ?_
      refine lv_if_ne (tgt := 54) hx hb dX57_isHeld_36 (by decide) (fun c_4 => ?_) (fun c_4 => ?_)
      · have hw := hw.2 (z_ne (rfl : x2.toInt = _) (rfl : (0 : Int32).toInt = 0) c_4)
        refine lv_iconst (v := 1) hx hb dX57_isHeld_54 (by decide) ?_
        refine lv_goto (tgt := 59) hx hb dX57_isHeld_55 (by decide) ?_
        refine lv_istore_n (lv' := [(2, .int 1), (0, .ref (ad 0)), (1, .int x1), (3, .int x3)]) hx hb dX57_isHeld_59 rfl hl (by decide) rfl (fun ls hl => ?_)
        have hq_6 := hw.1
        have hw := hw.2
        obtain ⟨x3_5, ex3_5⟩ : ∃ y : Int32, y = x3 + 1 := ⟨_, rfl⟩
        have hw := hw x3_5.toInt (by rw [ex3_5]; exact (z_x (z_add (z_m (rfl : x3.toInt = _)) (z_m (rfl : (1 : Int32).toInt = 1))) hq_6))
        refine lv_iinc (v := x3_5) (lv' := [(3, .int x3_5), (2, .int 1), (0, .ref (ad 0)), (1, .int x1)]) hx hb dX57_isHeld_60 hl (k := 3) rfl (by rw [ex3_5]; rfl) (by decide) rfl (fun ls hl => ?_)
        refine lv_goto (tgt := 27) hx hb dX57_isHeld_63 (by decide) ?_
        exact ih 1 x3_5 hw _ _ ls hH (lv_sub hl [2, 3, 1, 0] rfl)
      · have hw := hw.1 (z_eq (rfl : x2.toInt = _) (rfl : (0 : Int32).toInt = 0) c_4)
        refine lv_aload_n hx hb dX57_isHeld_39 rfl (lv_at hl 0 rfl) ?_
        refine k_get X hH in_X57 0 rfl hc 14 (by decide) q6804 rfl dX57_isHeld_40 ?_
        refine lv_iload_n hx hb dX57_isHeld_43 rfl (lv_at hl 3 rfl) ?_
        have hq_7 := hw.1
        have hw := hw.2
        refine k_lald X hH 9 8 rfl rfl (z_in (rfl : x3.toInt = _) hq_7) dX57_isHeld_44 ?_
        have e_8 := z_ldL (f := f_sectors) (rfl : x3.toInt = _) hq_7.1
        refine lv_iload_n hx hb dX57_isHeld_45 rfl (lv_at hl 1 rfl) ?_
        refine lv_lshr (v := (f_sectors x3.toNatClampNeg) >>> (x1.toInt64 &&& 63)) hx hb dX57_isHeld_46 rfl ?_
        have hq_9 := hw.1
        have hw := hw.2
        have e_10 := zL_shrV e_8 (rfl : x1.toInt = _) hq_9
        refine lv_lconst (v := 1) hx hb dX57_isHeld_47 (by decide) ?_
        refine lv_land hx hb dX57_isHeld_48 ?_
        have e_11 := zL_mask (zL_m e_10) (k := 1) (mm := 1) (c := 2) (by decide)
        refine lv_lconst (v := 1) hx hb dX57_isHeld_49 (by decide) ?_
        refine W.lcmp hx hb dX57_isHeld_50 ?_
        refine lv_if_ne (tgt := 58) hx hb dX57_isHeld_51 (by decide) (fun c_12 => ?_) (fun c_12 => ?_)
        · have hw := hw.2 (zL_ne e_11 (rfl : (1 : Int64).toInt = 1) (k_lc_ne.mp c_12))
          refine lv_iconst (v := 0) hx hb dX57_isHeld_58 (by decide) ?_
          refine lv_istore_n (lv' := [(2, .int 0), (0, .ref (ad 0)), (1, .int x1), (3, .int x3)]) hx hb dX57_isHeld_59 rfl hl (by decide) rfl (fun ls hl => ?_)
          have hq_14 := hw.1
          have hw := hw.2
          obtain ⟨x3_13, ex3_13⟩ : ∃ y : Int32, y = x3 + 1 := ⟨_, rfl⟩
          have hw := hw x3_13.toInt (by rw [ex3_13]; exact (z_x (z_add (z_m (rfl : x3.toInt = _)) (z_m (rfl : (1 : Int32).toInt = 1))) hq_14))
          refine lv_iinc (v := x3_13) (lv' := [(3, .int x3_13), (2, .int 0), (0, .ref (ad 0)), (1, .int x1)]) hx hb dX57_isHeld_60 hl (k := 3) rfl (by rw [ex3_13]; rfl) (by decide) rfl (fun ls hl => ?_)
          refine lv_goto (tgt := 27) hx hb dX57_isHeld_63 (by decide) ?_
          exact ih 0 x3_13 hw _ _ ls hH (lv_sub hl [2, 3, 1, 0] rfl)
        · have hw := hw.1 (zL_eq e_11 (rfl : (1 : Int64).toInt = 1) (k_lc_eq.mp c_12))
          refine lv_iconst (v := 1) hx hb dX57_isHeld_54 (by decide) ?_
          refine lv_goto (tgt := 59) hx hb dX57_isHeld_55 (by decide) ?_
          refine lv_istore_n (lv' := [(2, .int 1), (0, .ref (ad 0)), (1, .int x1), (3, .int x3)]) hx hb dX57_isHeld_59 rfl hl (by decide) rfl (fun ls hl => ?_)
          have hq_16 := hw.1
          have hw := hw.2
          obtain ⟨x3_15, ex3_15⟩ : ∃ y : Int32, y = x3 + 1 := ⟨_, rfl⟩
          have hw := hw x3_15.toInt (by rw [ex3_15]; exact (z_x (z_add (z_m (rfl : x3.toInt = _)) (z_m (rfl : (1 : Int32).toInt = 1))) hq_16))
          refine lv_iinc (v := x3_15) (lv' := [(3, .int x3_15), (2, .int 1), (0, .ref (ad 0)), (1, .int x1)]) hx hb dX57_isHeld_60 hl (k := 3) rfl (by rw [ex3_15]; rfl) (by decide) rfl (fun ls hl => ?_)
          refine lv_goto (tgt := 27) hx hb dX57_isHeld_63 (by decide) ?_
          exact ih 1 x3_15 hw _ _ ls hH (lv_sub hl [2, 3, 1, 0] rfl)
set_option maxHeartbeats 4000000 in
theorem atX57_isHeld_68 {p : Program} {l : Launch} {e : Env} {s : State} {m : MethodId} {args : Array Value} {below : List Frame} {meth : Method} {c : Code} {dC : Nat → ClassId} {dI : Nat → Nat → Nat} {cl : List vw_C} {ci : Nat} (hc : cl[ci]? = some (RX57, TX57, 22)) {ad : Nat → Nat} {d : Nat → ClassId} {A : Nat → Prop} {post : Int → Prop} {f_count : Int32} {f_runs : Int32} {f_full : Int32} {f_disk : Nat → Int32} {f_later : Nat → Int32} {f_open : Nat → Int32} {f_laid : Nat → Int32} {f_places : Nat → Int32} {f_changed : Int32} {f_targets : Nat → Int32} {f_bytes : Nat → Int32} {f_first : Int32} {f_behind : Int32} {f_numbers : Nat → Int32} {f_sectors : Nat → Int64} {f_oldest : Int32} {f_newest : Int32} {f_keptNumbers : Nat → Int32} {f_keptSectors : Nat → Int64} {f_kept : Int32} {f_thrown : Int32} {f_head : Nat → Int32} (X : kX p s m args meth c cX57_isHeld 4 RX57 (some .boolean) (dC, dI) cl (tX57 d)) {K107 : Int → Prop} {x1 : Int32}  (hk107 : ∀ (x2 : Int32), K107 x2.toInt → ∀ (H : Heap) (locs : List Loc) (ls : Array Slot), kH (dC, dI) cl A s.heap H locs (wX57 ci ad d f_count f_runs f_full f_disk f_later f_open f_laid f_places f_changed f_targets f_bytes f_first f_behind f_numbers f_sectors f_oldest f_newest f_keptNumbers f_keptSectors f_kept f_thrown f_head) → lv_has ls 4 [(2, .int x2)] → W p l e ({ frames := 1, cells := 0, slots := 0, locals := 23 } : Room) s m args below meth c H locs 0 0 (MQ below (va_Qi (fun (r : Int32) (_ : Unit) => post r.toInt) (kB (dC, dI) cl (tX57 d) A (fun _ : Unit => (wX57 ci ad d f_count f_runs f_full f_disk f_later f_open f_laid f_places f_changed f_targets f_bytes f_first f_behind f_numbers f_sectors f_oldest f_newest f_keptNumbers f_keptSectors f_kept f_thrown f_head))) A) args s 0 0 A) (F0 m 107 ls [])) :
    ∀ (nn : Nat) (x2 : Int32) (x3 : Int32), wX57_isHeld_68 K107 x1.toInt (zG f_keptSectors) f_kept.toInt nn x2.toInt x3.toInt → ∀ (H : Heap) (locs : List Loc) (ls : Array Slot), kH (dC, dI) cl A s.heap H locs (wX57 ci ad d f_count f_runs f_full f_disk f_later f_open f_laid f_places f_changed f_targets f_bytes f_first f_behind f_numbers f_sectors f_oldest f_newest f_keptNumbers f_keptSectors f_kept f_thrown f_head) → lv_has ls 4 [(0, .ref (ad 0)), (1, .int x1), (2, .int x2), (3, .int x3)] → W p l e ({ frames := 1, cells := 0, slots := 0, locals := 23 } : Room) s m args below meth c H locs 0 0 (MQ below (va_Qi (fun (r : Int32) (_ : Unit) => post r.toInt) (kB (dC, dI) cl (tX57 d) A (fun _ : Unit => (wX57 ci ad d f_count f_runs f_full f_disk f_later f_open f_laid f_places f_changed f_targets f_bytes f_first f_behind f_numbers f_sectors f_oldest f_newest f_keptNumbers f_keptSectors f_kept f_thrown f_head))) A) args s 0 0 A) (F0 m 68 ls []) := by
  have hx := X.1.1
  have hb := X.1.2.1
  intro nn
  induction nn with
  | zero =>
    intro x2 x3 hw
    exact False.elim hw
  | succ n ih =>
    intro x2 x3 hw H locs ls hH hl
    rw [wX57_isHeld_68] at hw
    refine lv_iload_n hx hb dX57_isHeld_68 rfl (lv_at hl 3 rfl) ?_
    refine lv_aload_n hx hb dX57_isHeld_69 rfl (lv_at hl 0 rfl) ?_
    refine k_get X hH in_X57 0 rfl hc 19 (by decide) q6809 rfl dX57_isHeld_70 ?_
    refine lv_icmp_ge (tgt := 107) hx hb dX57_isHeld_73 (by decide) (fun c_18 => ?_) (fun c_18 => ?_)
    · have hw := hw.1 (z_le (rfl : f_kept.toInt = _) (rfl : x3.toInt = _) c_18)
      exact hk107 x2 hw _ _ ls hH (lv_sub hl [2] rfl)
    · have hw := hw.2 (z_nle (rfl : f_kept.toInt = _) (rfl : x3.toInt = _) c_18)
      refine lv_iload_n hx hb dX57_isHeld_76 rfl (lv_at hl 2 rfl) ?_
      refine lv_if_ne (tgt := 95) hx hb dX57_isHeld_77 (by decide) (fun c_19 => ?_) (fun c_19 => ?_)
      · have hw := hw.2 (z_ne (rfl : x2.toInt = _) (rfl : (0 : Int32).toInt = 0) c_19)
        refine lv_iconst (v := 1) hx hb dX57_isHeld_95 (by decide) ?_
        refine lv_goto (tgt := 100) hx hb dX57_isHeld_96 (by decide) ?_
        refine lv_istore_n (lv' := [(2, .int 1), (0, .ref (ad 0)), (1, .int x1), (3, .int x3)]) hx hb dX57_isHeld_100 rfl hl (by decide) rfl (fun ls hl => ?_)
        have hq_21 := hw.1
        have hw := hw.2
        obtain ⟨x3_20, ex3_20⟩ : ∃ y : Int32, y = x3 + 1 := ⟨_, rfl⟩
        have hw := hw x3_20.toInt (by rw [ex3_20]; exact (z_x (z_add (z_m (rfl : x3.toInt = _)) (z_m (rfl : (1 : Int32).toInt = 1))) hq_21))
        refine lv_iinc (v := x3_20) (lv' := [(3, .int x3_20), (2, .int 1), (0, .ref (ad 0)), (1, .int x1)]) hx hb dX57_isHeld_101 hl (k := 3) rfl (by rw [ex3_20]; rfl) (by decide) rfl (fun ls hl => ?_)
        refine lv_goto (tgt := 68) hx hb dX57_isHeld_104 (by decide) ?_
        exact ih 1 x3_20 hw _ _ ls hH (lv_sub hl [2, 3, 1, 0] rfl)
      · have hw := hw.1 (z_eq (rfl : x2.toInt = _) (rfl : (0 : Int32).toInt = 0) c_19)
        refine lv_aload_n hx hb dX57_isHeld_80 rfl (lv_at hl 0 rfl) ?_
        refine k_get X hH in_X57 0 rfl hc 18 (by decide) q6808 rfl dX57_isHeld_81 ?_
        refine lv_iload_n hx hb dX57_isHeld_84 rfl (lv_at hl 3 rfl) ?_
        have hq_22 := hw.1
        have hw := hw.2
        refine k_lald X hH 11 10 rfl rfl (z_in (rfl : x3.toInt = _) hq_22) dX57_isHeld_85 ?_
        have e_23 := z_ldL (f := f_keptSectors) (rfl : x3.toInt = _) hq_22.1
        refine lv_iload_n hx hb dX57_isHeld_86 rfl (lv_at hl 1 rfl) ?_
        refine lv_lshr (v := (f_keptSectors x3.toNatClampNeg) >>> (x1.toInt64 &&& 63)) hx hb dX57_isHeld_87 rfl ?_
        have hq_24 := hw.1
        have hw := hw.2
        have e_25 := zL_shrV e_23 (rfl : x1.toInt = _) hq_24
        refine lv_lconst (v := 1) hx hb dX57_isHeld_88 (by decide) ?_
        refine lv_land hx hb dX57_isHeld_89 ?_
        have e_26 := zL_mask (zL_m e_25) (k := 1) (mm := 1) (c := 2) (by decide)
        refine lv_lconst (v := 1) hx hb dX57_isHeld_90 (by decide) ?_
        refine W.lcmp hx hb dX57_isHeld_91 ?_
        refine lv_if_ne (tgt := 99) hx hb dX57_isHeld_92 (by decide) (fun c_27 => ?_) (fun c_27 => ?_)
        · have hw := hw.2 (zL_ne e_26 (rfl : (1 : Int64).toInt = 1) (k_lc_ne.mp c_27))
          refine lv_iconst (v := 0) hx hb dX57_isHeld_99 (by decide) ?_
          refine lv_istore_n (lv' := [(2, .int 0), (0, .ref (ad 0)), (1, .int x1), (3, .int x3)]) hx hb dX57_isHeld_100 rfl hl (by decide) rfl (fun ls hl => ?_)
          have hq_29 := hw.1
          have hw := hw.2
          obtain ⟨x3_28, ex3_28⟩ : ∃ y : Int32, y = x3 + 1 := ⟨_, rfl⟩
          have hw := hw x3_28.toInt (by rw [ex3_28]; exact (z_x (z_add (z_m (rfl : x3.toInt = _)) (z_m (rfl : (1 : Int32).toInt = 1))) hq_29))
          refine lv_iinc (v := x3_28) (lv' := [(3, .int x3_28), (2, .int 0), (0, .ref (ad 0)), (1, .int x1)]) hx hb dX57_isHeld_101 hl (k := 3) rfl (by rw [ex3_28]; rfl) (by decide) rfl (fun ls hl => ?_)
          refine lv_goto (tgt := 68) hx hb dX57_isHeld_104 (by decide) ?_
          exact ih 0 x3_28 hw _ _ ls hH (lv_sub hl [2, 3, 1, 0] rfl)
        · have hw := hw.1 (zL_eq e_26 (rfl : (1 : Int64).toInt = 1) (k_lc_eq.mp c_27))
          refine lv_iconst (v := 1) hx hb dX57_isHeld_95 (by decide) ?_
          refine lv_goto (tgt := 100) hx hb dX57_isHeld_96 (by decide) ?_
          refine lv_istore_n (lv' := [(2, .int 1), (0, .ref (ad 0)), (1, .int x1), (3, .int x3)]) hx hb dX57_isHeld_100 rfl hl (by decide) rfl (fun ls hl => ?_)
          have hq_31 := hw.1
          have hw := hw.2
          obtain ⟨x3_30, ex3_30⟩ : ∃ y : Int32, y = x3 + 1 := ⟨_, rfl⟩
          have hw := hw x3_30.toInt (by rw [ex3_30]; exact (z_x (z_add (z_m (rfl : x3.toInt = _)) (z_m (rfl : (1 : Int32).toInt = 1))) hq_31))
          refine lv_iinc (v := x3_30) (lv' := [(3, .int x3_30), (2, .int 1), (0, .ref (ad 0)), (1, .int x1)]) hx hb dX57_isHeld_101 hl (k := 3) rfl (by rw [ex3_30]; rfl) (by decide) rfl (fun ls hl => ?_)
          refine lv_goto (tgt := 68) hx hb dX57_isHeld_104 (by decide) ?_
          exact ih 1 x3_30 hw _ _ ls hH (lv_sub hl [2, 3, 1, 0] rfl)
set_option maxHeartbeats 4000000 in
theorem walkX57_isHeld {l : Launch} {dC : Nat → ClassId} {dI : Nat → Nat → Nat} {cl : List vw_C} {ci : Nat} (hc : cl[ci]? = some (RX57, TX57, 22)) {ad : Nat → Nat} {d : Nat → ClassId} {sz : Nat} {f_count : Int32} {f_runs : Int32} {f_full : Int32} {f_disk : Nat → Int32} {f_later : Nat → Int32} {f_open : Nat → Int32} {f_laid : Nat → Int32} {f_places : Nat → Int32} {f_changed : Int32} {f_targets : Nat → Int32} {f_bytes : Nat → Int32} {f_first : Int32} {f_behind : Int32} {f_numbers : Nat → Int32} {f_sectors : Nat → Int64} {f_oldest : Int32} {f_newest : Int32} {f_keptNumbers : Nat → Int32} {f_keptSectors : Nat → Int64} {f_kept : Int32} {f_thrown : Int32} {f_head : Nat → Int32} {x1 : Int32} {post : Int → Prop} (hw : wpX57_isHeld post (zF f_places) (zF f_targets) f_first.toInt f_behind.toInt (zG f_sectors) f_oldest.toInt f_newest.toInt (zG f_keptSectors) f_kept.toInt x1.toInt) :
    Met l yX57_isHeld (ws_ yX57_isHeld cX57_isHeld 4 (some .boolean)) ({ frames := 1, cells := 0, slots := 0, locals := 23 } : Room) (kPc (dC, dI) cl (tX57 d) [.ref (ad 0), .int x1] sz (wX57 ci ad d f_count f_runs f_full f_disk f_later f_open f_laid f_places f_changed f_targets f_bytes f_first f_behind f_numbers f_sectors f_oldest f_newest f_keptNumbers f_keptSectors f_kept f_thrown f_head)) (va_Qi (fun (r : Int32) (_ : Unit) => post r.toInt) (kB (dC, dI) cl (tX57 d) (va_A (wX57 ci ad d f_count f_runs f_full f_disk f_later f_open f_laid f_places f_changed f_targets f_bytes f_first f_behind f_numbers f_sectors f_oldest f_newest f_keptNumbers f_keptSectors f_kept f_thrown f_head) sz) (fun _ : Unit => (wX57 ci ad d f_count f_runs f_full f_disk f_later f_open f_laid f_places f_changed f_targets f_bytes f_first f_behind f_numbers f_sectors f_oldest f_newest f_keptNumbers f_keptSectors f_kept f_thrown f_head))) (va_A (wX57 ci ad d f_count f_runs f_full f_disk f_later f_open f_laid f_places f_changed f_targets f_bytes f_first f_behind f_numbers f_sectors f_oldest f_newest f_keptNumbers f_keptSectors f_kept f_thrown f_head) sz)) 0 0 (va_A (wX57 ci ad d f_count f_runs f_full f_disk f_later f_open f_laid f_places f_changed f_targets f_bytes f_first f_behind f_numbers f_sectors f_oldest f_newest f_keptNumbers f_keptSectors f_kept f_thrown f_head) sz) := by
  refine k_enter (by decide) (Nat.le_of_ble_eq_true rfl) ?_
  intro p e s m below meth c ls X hsz hH hl
  subst hsz
  generalize va_A (wX57 ci ad d f_count f_runs f_full f_disk f_later f_open f_laid f_places f_changed f_targets f_bytes f_first f_behind f_numbers f_sectors f_oldest f_newest f_keptNumbers f_keptSectors f_kept f_thrown f_head) s.heap.size = A at hH ⊢
  have hx := X.1.1
  have hb := X.1.2.1
  have hl : lv_has ls 4 [(0, .ref (ad 0)), (1, .int x1)] := hl
  unfold wpX57_isHeld at hw
  refine lv_aload_n hx hb dX57_isHeld_0 rfl (lv_at hl 0 rfl) ?_
  refine lv_iload_n hx hb dX57_isHeld_1 rfl (lv_at hl 1 rfl) ?_
  refine k_i0 hH (k_runV (As := [.int x1]) (rest := []) X hH.1 hH.2.1 X.2.2.2 (walkX57_isOpen hc (x1 := x1) (f_count := f_count) (f_runs := f_runs) (f_full := f_full) (f_disk := f_disk) (f_later := f_later) (f_open := f_open) (f_laid := f_laid) (f_places := f_places) (f_changed := f_changed) (f_targets := f_targets) (f_bytes := f_bytes) (f_first := f_first) (f_behind := f_behind) (f_numbers := f_numbers) (f_sectors := f_sectors) (f_oldest := f_oldest) (f_newest := f_newest) (f_keptNumbers := f_keptNumbers) (f_keptSectors := f_keptSectors) (f_kept := f_kept) (f_thrown := f_thrown) (f_head := f_head) hw) (cwV 1 X.1.2.2.2.2 gX57_101 rfl rfl rfl hX57_isOpen ⟨Nat.le_of_ble_eq_true rfl, Nat.le_of_ble_eq_true rfl⟩) hc (q0 := 0) rfl rfl hl.1 rfl (Nat.le_of_ble_eq_true rfl) dX57_isHeld_2 ⟨Nat.le_refl 0, Nat.le_refl 0⟩) (fun r_1 _ H locs hw hH => ?_)
  have hH : kH (dC, dI) cl A s.heap H locs (wX57 ci ad d f_count f_runs f_full f_disk f_later f_open f_laid f_places f_changed f_targets f_bytes f_first f_behind f_numbers f_sectors f_oldest f_newest f_keptNumbers f_keptSectors f_kept f_thrown f_head) := hH
  refine lv_if_ne (tgt := 16) hx hb dX57_isHeld_5 (by decide) (fun c_2 => ?_) (fun c_2 => ?_)
  · have hw := hw.2 (z_ne (rfl : r_1.toInt = _) (rfl : (0 : Int32).toInt = 0) c_2)
    refine lv_iconst (v := 1) hx hb dX57_isHeld_16 (by decide) ?_
    refine lv_goto (tgt := 21) hx hb dX57_isHeld_17 (by decide) ?_
    refine lv_istore_n (lv' := [(2, .int 1), (0, .ref (ad 0)), (1, .int x1)]) hx hb dX57_isHeld_21 rfl hl (by decide) rfl (fun ls hl => ?_)
    refine lv_aload_n hx hb dX57_isHeld_22 rfl (lv_at hl 1 rfl) ?_
    refine k_get X hH in_X57 0 rfl hc 15 (by decide) q6805 rfl dX57_isHeld_23 ?_
    refine lv_istore_n (lv' := [(3, .int f_oldest), (2, .int 1), (0, .ref (ad 0)), (1, .int x1)]) hx hb dX57_isHeld_26 rfl hl (by decide) rfl (fun ls hl => ?_)
    obtain ⟨fu, hw⟩ := hw
    refine atX57_isHeld_27 hc X ?_ fu 1 f_oldest hw _ _ ls hH (lv_sub hl [2, 3, 1, 0] rfl)
    · intro x2_17 hw H locs ls hH hl
      refine lv_iconst (v := 0) hx hb dX57_isHeld_66 (by decide) ?_
      refine lv_istore_n (lv' := [(3, .int 0), (0, .ref (ad 0)), (1, .int x1), (2, .int x2_17)]) hx hb dX57_isHeld_67 rfl hl (by decide) rfl (fun ls hl => ?_)
      obtain ⟨fu, hw⟩ := hw
      refine atX57_isHeld_68 hc X ?_ fu x2_17 0 hw _ _ ls hH (lv_sub hl [1, 2, 3, 0] rfl)
      · intro x2_32 hw H locs ls hH hl
        refine lv_iload_n hx hb dX57_isHeld_107 rfl (lv_at hl 0 rfl) ?_
        have hq_33 := hw.1
        have hw := hw.2
        exact k_iret (v := x2_32) X hH () hw rfl (k_zn (z_boolE (rfl : x2_32.toInt = _) hq_33)) dX57_isHeld_108
  · have hw := hw.1 (z_eq (rfl : r_1.toInt = _) (rfl : (0 : Int32).toInt = 0) c_2)
    refine lv_aload_n hx hb dX57_isHeld_8 rfl (lv_at hl 0 rfl) ?_
    refine lv_iload_n hx hb dX57_isHeld_9 rfl (lv_at hl 1 rfl) ?_
    refine k_i0 hH (k_runV (As := [.int x1]) (rest := []) X hH.1 hH.2.1 X.2.2.2 (walkX57_isWaiting hc (x1 := x1) (f_count := f_count) (f_runs := f_runs) (f_full := f_full) (f_disk := f_disk) (f_later := f_later) (f_open := f_open) (f_laid := f_laid) (f_places := f_places) (f_changed := f_changed) (f_targets := f_targets) (f_bytes := f_bytes) (f_first := f_first) (f_behind := f_behind) (f_numbers := f_numbers) (f_sectors := f_sectors) (f_oldest := f_oldest) (f_newest := f_newest) (f_keptNumbers := f_keptNumbers) (f_keptSectors := f_keptSectors) (f_kept := f_kept) (f_thrown := f_thrown) (f_head := f_head) hw) (cwV 1 X.1.2.2.2.2 gX57_105 rfl rfl rfl hX57_isWaiting ⟨Nat.le_of_ble_eq_true rfl, Nat.le_of_ble_eq_true rfl⟩) hc (q0 := 0) rfl rfl hl.1 rfl (Nat.le_of_ble_eq_true rfl) dX57_isHeld_10 ⟨Nat.le_refl 0, Nat.le_refl 0⟩) (fun r_34 _ H locs hw hH => ?_)
    have hH : kH (dC, dI) cl A s.heap H locs (wX57 ci ad d f_count f_runs f_full f_disk f_later f_open f_laid f_places f_changed f_targets f_bytes f_first f_behind f_numbers f_sectors f_oldest f_newest f_keptNumbers f_keptSectors f_kept f_thrown f_head) := hH
    refine lv_if_eq (tgt := 20) hx hb dX57_isHeld_13 (by decide) (fun c_35 => ?_) (fun c_35 => ?_)
    · have hw := hw.1 (z_eq (rfl : r_34.toInt = _) (rfl : (0 : Int32).toInt = 0) c_35)
      refine lv_iconst (v := 0) hx hb dX57_isHeld_20 (by decide) ?_
      refine lv_istore_n (lv' := [(2, .int 0), (0, .ref (ad 0)), (1, .int x1)]) hx hb dX57_isHeld_21 rfl hl (by decide) rfl (fun ls hl => ?_)
      refine lv_aload_n hx hb dX57_isHeld_22 rfl (lv_at hl 1 rfl) ?_
      refine k_get X hH in_X57 0 rfl hc 15 (by decide) q6805 rfl dX57_isHeld_23 ?_
      refine lv_istore_n (lv' := [(3, .int f_oldest), (2, .int 0), (0, .ref (ad 0)), (1, .int x1)]) hx hb dX57_isHeld_26 rfl hl (by decide) rfl (fun ls hl => ?_)
      obtain ⟨fu, hw⟩ := hw
      refine atX57_isHeld_27 hc X ?_ fu 0 f_oldest hw _ _ ls hH (lv_sub hl [2, 3, 1, 0] rfl)
      · intro x2_36 hw H locs ls hH hl
        refine lv_iconst (v := 0) hx hb dX57_isHeld_66 (by decide) ?_
        refine lv_istore_n (lv' := [(3, .int 0), (0, .ref (ad 0)), (1, .int x1), (2, .int x2_36)]) hx hb dX57_isHeld_67 rfl hl (by decide) rfl (fun ls hl => ?_)
        obtain ⟨fu, hw⟩ := hw
        refine atX57_isHeld_68 hc X ?_ fu x2_36 0 hw _ _ ls hH (lv_sub hl [1, 2, 3, 0] rfl)
        · intro x2_37 hw H locs ls hH hl
          refine lv_iload_n hx hb dX57_isHeld_107 rfl (lv_at hl 0 rfl) ?_
          have hq_38 := hw.1
          have hw := hw.2
          exact k_iret (v := x2_37) X hH () hw rfl (k_zn (z_boolE (rfl : x2_37.toInt = _) hq_38)) dX57_isHeld_108
    · have hw := hw.2 (z_neq (rfl : r_34.toInt = _) (rfl : (0 : Int32).toInt = 0) c_35)
      refine lv_iconst (v := 1) hx hb dX57_isHeld_16 (by decide) ?_
      refine lv_goto (tgt := 21) hx hb dX57_isHeld_17 (by decide) ?_
      refine lv_istore_n (lv' := [(2, .int 1), (0, .ref (ad 0)), (1, .int x1)]) hx hb dX57_isHeld_21 rfl hl (by decide) rfl (fun ls hl => ?_)
      refine lv_aload_n hx hb dX57_isHeld_22 rfl (lv_at hl 1 rfl) ?_
      refine k_get X hH in_X57 0 rfl hc 15 (by decide) q6805 rfl dX57_isHeld_23 ?_
      refine lv_istore_n (lv' := [(3, .int f_oldest), (2, .int 1), (0, .ref (ad 0)), (1, .int x1)]) hx hb dX57_isHeld_26 rfl hl (by decide) rfl (fun ls hl => ?_)
      obtain ⟨fu, hw⟩ := hw
      refine atX57_isHeld_27 hc X ?_ fu 1 f_oldest hw _ _ ls hH (lv_sub hl [2, 3, 1, 0] rfl)
      · intro x2_39 hw H locs ls hH hl
        refine lv_iconst (v := 0) hx hb dX57_isHeld_66 (by decide) ?_
        refine lv_istore_n (lv' := [(3, .int 0), (0, .ref (ad 0)), (1, .int x1), (2, .int x2_39)]) hx hb dX57_isHeld_67 rfl hl (by decide) rfl (fun ls hl => ?_)
        obtain ⟨fu, hw⟩ := hw
        refine atX57_isHeld_68 hc X ?_ fu x2_39 0 hw _ _ ls hH (lv_sub hl [1, 2, 3, 0] rfl)
        · intro x2_40 hw H locs ls hH hl
          refine lv_iload_n hx hb dX57_isHeld_107 rfl (lv_at hl 0 rfl) ?_
          have hq_41 := hw.1
          have hw := hw.2
          exact k_iret (v := x2_40) X hH () hw rfl (k_zn (z_boolE (rfl : x2_40.toInt = _) hq_41)) dX57_isHeld_108
set_option maxHeartbeats 4000000 in
theorem atX57_freeSector_2 {p : Program} {l : Launch} {e : Env} {s : State} {m : MethodId} {args : Array Value} {below : List Frame} {meth : Method} {c : Code} {dC : Nat → ClassId} {dI : Nat → Nat → Nat} {cl : List vw_C} {ci : Nat} (hc : cl[ci]? = some (RX57, TX57, 22)) {ad : Nat → Nat} {d : Nat → ClassId} {A : Nat → Prop} {post : Int → Prop} {f_count : Int32} {f_runs : Int32} {f_full : Int32} {f_disk : Nat → Int32} {f_later : Nat → Int32} {f_open : Nat → Int32} {f_laid : Nat → Int32} {f_places : Nat → Int32} {f_changed : Int32} {f_targets : Nat → Int32} {f_bytes : Nat → Int32} {f_first : Int32} {f_behind : Int32} {f_numbers : Nat → Int32} {f_sectors : Nat → Int64} {f_oldest : Int32} {f_newest : Int32} {f_keptNumbers : Nat → Int32} {f_keptSectors : Nat → Int64} {f_kept : Int32} {f_thrown : Int32} {f_head : Nat → Int32} (X : kX p s m args meth c cX57_freeSector 2 RX57 (some .int) (dC, dI) cl (tX57 d)) {K24 : Int → Prop}   (hk24 : ∀ (x1 : Int32), K24 x1.toInt → ∀ (H : Heap) (locs : List Loc) (ls : Array Slot), kH (dC, dI) cl A s.heap H locs (wX57 ci ad d f_count f_runs f_full f_disk f_later f_open f_laid f_places f_changed f_targets f_bytes f_first f_behind f_numbers f_sectors f_oldest f_newest f_keptNumbers f_keptSectors f_kept f_thrown f_head) → lv_has ls 2 [(0, .ref (ad 0)), (1, .int x1)] → W p l e ({ frames := 2, cells := 0, slots := 0, locals := 46 } : Room) s m args below meth c H locs 0 0 (MQ below (va_Qi (fun (r : Int32) (_ : Unit) => post r.toInt) (kB (dC, dI) cl (tX57 d) A (fun _ : Unit => (wX57 ci ad d f_count f_runs f_full f_disk f_later f_open f_laid f_places f_changed f_targets f_bytes f_first f_behind f_numbers f_sectors f_oldest f_newest f_keptNumbers f_keptSectors f_kept f_thrown f_head))) A) args s 0 0 A) (F0 m 24 ls [])) :
    ∀ (nn : Nat) (x1 : Int32), wX57_freeSector_2 K24 f_count.toInt (zF f_places) (zF f_targets) f_first.toInt f_behind.toInt (zG f_sectors) f_oldest.toInt f_newest.toInt (zG f_keptSectors) f_kept.toInt nn x1.toInt → ∀ (H : Heap) (locs : List Loc) (ls : Array Slot), kH (dC, dI) cl A s.heap H locs (wX57 ci ad d f_count f_runs f_full f_disk f_later f_open f_laid f_places f_changed f_targets f_bytes f_first f_behind f_numbers f_sectors f_oldest f_newest f_keptNumbers f_keptSectors f_kept f_thrown f_head) → lv_has ls 2 [(0, .ref (ad 0)), (1, .int x1)] → W p l e ({ frames := 2, cells := 0, slots := 0, locals := 46 } : Room) s m args below meth c H locs 0 0 (MQ below (va_Qi (fun (r : Int32) (_ : Unit) => post r.toInt) (kB (dC, dI) cl (tX57 d) A (fun _ : Unit => (wX57 ci ad d f_count f_runs f_full f_disk f_later f_open f_laid f_places f_changed f_targets f_bytes f_first f_behind f_numbers f_sectors f_oldest f_newest f_keptNumbers f_keptSectors f_kept f_thrown f_head))) A) args s 0 0 A) (F0 m 2 ls []) := by
  have hx := X.1.1
  have hb := X.1.2.1
  intro nn
  induction nn with
  | zero =>
    intro x1 hw
    exact False.elim hw
  | succ n ih =>
    intro x1 hw H locs ls hH hl
    rw [wX57_freeSector_2] at hw
    refine lv_iload_n hx hb dX57_freeSector_2 rfl (lv_at hl 1 rfl) ?_
    refine lv_aload_n hx hb dX57_freeSector_3 rfl (lv_at hl 0 rfl) ?_
    refine k_get X hH in_X57 0 rfl hc 0 (by decide) q6790 rfl dX57_freeSector_4 ?_
    refine lv_icmp_ge (tgt := 24) hx hb dX57_freeSector_7 (by decide) (fun c_1 => ?_) (fun c_1 => ?_)
    · have hw := hw.1 (z_le (rfl : f_count.toInt = _) (rfl : x1.toInt = _) c_1)
      exact hk24 x1 hw _ _ ls hH (lv_sub hl [0, 1] rfl)
    · have hw := hw.2 (z_nle (rfl : f_count.toInt = _) (rfl : x1.toInt = _) c_1)
      refine lv_aload_n hx hb dX57_freeSector_10 rfl (lv_at hl 0 rfl) ?_
      refine lv_iload_n hx hb dX57_freeSector_11 rfl (lv_at hl 1 rfl) ?_
      refine k_i0 hH (k_runV (As := [.int x1]) (rest := []) X hH.1 hH.2.1 X.2.2.2 (walkX57_isHeld hc (x1 := x1) (f_count := f_count) (f_runs := f_runs) (f_full := f_full) (f_disk := f_disk) (f_later := f_later) (f_open := f_open) (f_laid := f_laid) (f_places := f_places) (f_changed := f_changed) (f_targets := f_targets) (f_bytes := f_bytes) (f_first := f_first) (f_behind := f_behind) (f_numbers := f_numbers) (f_sectors := f_sectors) (f_oldest := f_oldest) (f_newest := f_newest) (f_keptNumbers := f_keptNumbers) (f_keptSectors := f_keptSectors) (f_kept := f_kept) (f_thrown := f_thrown) (f_head := f_head) hw) (cwV 1 X.1.2.2.2.2 gX57_108 rfl rfl rfl hX57_isHeld ⟨Nat.le_of_ble_eq_true rfl, Nat.le_of_ble_eq_true rfl⟩) hc (q0 := 0) rfl rfl hl.1 rfl (Nat.le_of_ble_eq_true rfl) dX57_freeSector_12 ⟨Nat.le_refl 0, Nat.le_refl 0⟩) (fun r_2 _ H locs hw hH => ?_)
      have hH : kH (dC, dI) cl A s.heap H locs (wX57 ci ad d f_count f_runs f_full f_disk f_later f_open f_laid f_places f_changed f_targets f_bytes f_first f_behind f_numbers f_sectors f_oldest f_newest f_keptNumbers f_keptSectors f_kept f_thrown f_head) := hH
      refine lv_if_eq (tgt := 24) hx hb dX57_freeSector_15 (by decide) (fun c_3 => ?_) (fun c_3 => ?_)
      · have hw := hw.1 (z_eq (rfl : r_2.toInt = _) (rfl : (0 : Int32).toInt = 0) c_3)
        exact hk24 x1 hw _ _ ls hH (lv_sub hl [0, 1] rfl)
      · have hw := hw.2 (z_neq (rfl : r_2.toInt = _) (rfl : (0 : Int32).toInt = 0) c_3)
        have hq_5 := hw.1
        have hw := hw.2
        obtain ⟨x1_4, ex1_4⟩ : ∃ y : Int32, y = x1 + 1 := ⟨_, rfl⟩
        have hw := hw x1_4.toInt (by rw [ex1_4]; exact (z_x (z_add (z_m (rfl : x1.toInt = _)) (z_m (rfl : (1 : Int32).toInt = 1))) hq_5))
        refine lv_iinc (v := x1_4) (lv' := [(1, .int x1_4), (0, .ref (ad 0))]) hx hb dX57_freeSector_18 hl (k := 1) rfl (by rw [ex1_4]; rfl) (by decide) rfl (fun ls hl => ?_)
        refine lv_goto (tgt := 2) hx hb dX57_freeSector_21 (by decide) ?_
        exact ih x1_4 hw _ _ ls hH (lv_sub hl [1, 0] rfl)
set_option maxHeartbeats 4000000 in
theorem walkX57_freeSector {l : Launch} {dC : Nat → ClassId} {dI : Nat → Nat → Nat} {cl : List vw_C} {ci : Nat} (hc : cl[ci]? = some (RX57, TX57, 22)) {ad : Nat → Nat} {d : Nat → ClassId} {sz : Nat} {f_count : Int32} {f_runs : Int32} {f_full : Int32} {f_disk : Nat → Int32} {f_later : Nat → Int32} {f_open : Nat → Int32} {f_laid : Nat → Int32} {f_places : Nat → Int32} {f_changed : Int32} {f_targets : Nat → Int32} {f_bytes : Nat → Int32} {f_first : Int32} {f_behind : Int32} {f_numbers : Nat → Int32} {f_sectors : Nat → Int64} {f_oldest : Int32} {f_newest : Int32} {f_keptNumbers : Nat → Int32} {f_keptSectors : Nat → Int64} {f_kept : Int32} {f_thrown : Int32} {f_head : Nat → Int32}  {post : Int → Prop} (hw : wpX57_freeSector post f_count.toInt (zF f_places) (zF f_targets) f_first.toInt f_behind.toInt (zG f_sectors) f_oldest.toInt f_newest.toInt (zG f_keptSectors) f_kept.toInt ) :
    Met l yX57_freeSector (ws_ yX57_freeSector cX57_freeSector 2 (some .int)) ({ frames := 2, cells := 0, slots := 0, locals := 46 } : Room) (kPc (dC, dI) cl (tX57 d) [.ref (ad 0)] sz (wX57 ci ad d f_count f_runs f_full f_disk f_later f_open f_laid f_places f_changed f_targets f_bytes f_first f_behind f_numbers f_sectors f_oldest f_newest f_keptNumbers f_keptSectors f_kept f_thrown f_head)) (va_Qi (fun (r : Int32) (_ : Unit) => post r.toInt) (kB (dC, dI) cl (tX57 d) (va_A (wX57 ci ad d f_count f_runs f_full f_disk f_later f_open f_laid f_places f_changed f_targets f_bytes f_first f_behind f_numbers f_sectors f_oldest f_newest f_keptNumbers f_keptSectors f_kept f_thrown f_head) sz) (fun _ : Unit => (wX57 ci ad d f_count f_runs f_full f_disk f_later f_open f_laid f_places f_changed f_targets f_bytes f_first f_behind f_numbers f_sectors f_oldest f_newest f_keptNumbers f_keptSectors f_kept f_thrown f_head))) (va_A (wX57 ci ad d f_count f_runs f_full f_disk f_later f_open f_laid f_places f_changed f_targets f_bytes f_first f_behind f_numbers f_sectors f_oldest f_newest f_keptNumbers f_keptSectors f_kept f_thrown f_head) sz)) 0 0 (va_A (wX57 ci ad d f_count f_runs f_full f_disk f_later f_open f_laid f_places f_changed f_targets f_bytes f_first f_behind f_numbers f_sectors f_oldest f_newest f_keptNumbers f_keptSectors f_kept f_thrown f_head) sz) := by
  refine k_enter (by decide) (Nat.le_of_ble_eq_true rfl) ?_
  intro p e s m below meth c ls X hsz hH hl
  subst hsz
  generalize va_A (wX57 ci ad d f_count f_runs f_full f_disk f_later f_open f_laid f_places f_changed f_targets f_bytes f_first f_behind f_numbers f_sectors f_oldest f_newest f_keptNumbers f_keptSectors f_kept f_thrown f_head) s.heap.size = A at hH ⊢
  have hx := X.1.1
  have hb := X.1.2.1
  have hl : lv_has ls 2 [(0, .ref (ad 0))] := hl
  unfold wpX57_freeSector at hw
  refine lv_iconst (v := 2) hx hb dX57_freeSector_0 (by decide) ?_
  refine lv_istore_n (lv' := [(1, .int 2), (0, .ref (ad 0))]) hx hb dX57_freeSector_1 rfl hl (by decide) rfl (fun ls hl => ?_)
  obtain ⟨fu, hw⟩ := hw
  refine atX57_freeSector_2 hc X ?_ fu 2 hw _ _ ls hH (lv_sub hl [1, 0] rfl)
  · intro x1_6 hw H locs ls hH hl
    refine lv_iload_n hx hb dX57_freeSector_24 rfl (lv_at hl 1 rfl) ?_
    refine lv_aload_n hx hb dX57_freeSector_25 rfl (lv_at hl 0 rfl) ?_
    refine k_get X hH in_X57 0 rfl hc 0 (by decide) q6790 rfl dX57_freeSector_26 ?_
    refine lv_icmp_ge (tgt := 36) hx hb dX57_freeSector_29 (by decide) (fun c_7 => ?_) (fun c_7 => ?_)
    · have hw := hw.1 (z_le (rfl : f_count.toInt = _) (rfl : x1_6.toInt = _) c_7)
      refine lv_iconst (v := (-1)) hx hb dX57_freeSector_36 (by decide) ?_
      exact k_iret (v := (-1)) X hH () hw rfl rfl dX57_freeSector_37
    · have hw := hw.2 (z_nle (rfl : f_count.toInt = _) (rfl : x1_6.toInt = _) c_7)
      refine lv_iload_n hx hb dX57_freeSector_32 rfl (lv_at hl 1 rfl) ?_
      refine lv_goto (tgt := 37) hx hb dX57_freeSector_33 (by decide) ?_
      exact k_iret (v := x1_6) X hH () hw rfl rfl dX57_freeSector_37
set_option maxHeartbeats 4000000 in
theorem atX57_set_open_2 {p : Program} {l : Launch} {e : Env} {s : State} {m : MethodId} {args : Array Value} {below : List Frame} {meth : Method} {c : Code} {dC : Nat → ClassId} {dI : Nat → Nat → Nat} {cl : List vw_C} {ci : Nat} (hc : cl[ci]? = some (RX57, TX57, 22)) {ad : Nat → Nat} {d : Nat → ClassId} {A : Nat → Prop} {post : (Int → Int) → Prop} {f_count : Int32} {f_runs : Int32} {f_full : Int32} {f_disk : Nat → Int32} {f_later : Nat → Int32} {f_laid : Nat → Int32} {f_places : Nat → Int32} {f_changed : Int32} {f_targets : Nat → Int32} {f_bytes : Nat → Int32} {f_first : Int32} {f_behind : Int32} {f_numbers : Nat → Int32} {f_sectors : Nat → Int64} {f_oldest : Int32} {f_newest : Int32} {f_keptNumbers : Nat → Int32} {f_keptSectors : Nat → Int64} {f_kept : Int32} {f_thrown : Int32} {f_head : Nat → Int32} (X : kX p s m args meth c cX57_set 4 RX57 none (dC, dI) cl (tX57 d)) {K31 : (Int → Int) → Prop} {x1 : Int32} {x2 : Int32}  (hk31 : ∀ (f_open : Nat → Int32), K31 (zF f_open) → ∀ (H : Heap) (locs : List Loc) (ls : Array Slot), kH (dC, dI) cl A s.heap H locs (wX57 ci ad d f_count f_runs f_full f_disk f_later f_open f_laid f_places f_changed f_targets f_bytes f_first f_behind f_numbers f_sectors f_oldest f_newest f_keptNumbers f_keptSectors f_kept f_thrown f_head) → lv_has ls 4 [] → W p l e ({ frames := 0, cells := 0, slots := 0, locals := 0 } : Room) s m args below meth c H locs 0 0 (MQ below (va_Qv (fun (u : (Nat → Int32)) => post (zF (u))) (kB (dC, dI) cl (tX57 d) A (fun u : (Nat → Int32) => (wX57 ci ad d f_count f_runs f_full f_disk f_later (u) f_laid f_places f_changed f_targets f_bytes f_first f_behind f_numbers f_sectors f_oldest f_newest f_keptNumbers f_keptSectors f_kept f_thrown f_head))) A) args s 0 0 A) (F0 m 31 ls [])) :
    ∀ (nn : Nat) (x3 : Int32) (f_open : Nat → Int32), wX57_set_open_2 K31 x1.toInt x2.toInt nn x3.toInt (zF f_open) → ∀ (H : Heap) (locs : List Loc) (ls : Array Slot), kH (dC, dI) cl A s.heap H locs (wX57 ci ad d f_count f_runs f_full f_disk f_later f_open f_laid f_places f_changed f_targets f_bytes f_first f_behind f_numbers f_sectors f_oldest f_newest f_keptNumbers f_keptSectors f_kept f_thrown f_head) → lv_has ls 4 [(0, .ref (ad 3)), (1, .int x1), (2, .int x2), (3, .int x3)] → W p l e ({ frames := 0, cells := 0, slots := 0, locals := 0 } : Room) s m args below meth c H locs 0 0 (MQ below (va_Qv (fun (u : (Nat → Int32)) => post (zF (u))) (kB (dC, dI) cl (tX57 d) A (fun u : (Nat → Int32) => (wX57 ci ad d f_count f_runs f_full f_disk f_later (u) f_laid f_places f_changed f_targets f_bytes f_first f_behind f_numbers f_sectors f_oldest f_newest f_keptNumbers f_keptSectors f_kept f_thrown f_head))) A) args s 0 0 A) (F0 m 2 ls []) := by
  have hx := X.1.1
  have hb := X.1.2.1
  intro nn
  induction nn with
  | zero =>
    intro x3 f_open hw
    exact False.elim hw
  | succ n ih =>
    intro x3 f_open hw H locs ls hH hl
    rw [wX57_set_open_2] at hw
    refine lv_iload_n hx hb dX57_set_2 rfl (lv_at hl 3 rfl) ?_
    refine lv_iconst (v := 4) hx hb dX57_set_3 (by decide) ?_
    refine lv_icmp_ge (tgt := 31) hx hb dX57_set_4 (by decide) (fun c_1 => ?_) (fun c_1 => ?_)
    · have hw := hw.1 (z_le (rfl : (4 : Int32).toInt = 4) (rfl : x3.toInt = _) c_1)
      exact hk31 f_open hw _ _ ls hH (lv_sub hl [] rfl)
    · have hw := hw.2 (z_nle (rfl : (4 : Int32).toInt = 4) (rfl : x3.toInt = _) c_1)
      refine lv_aload_n hx hb dX57_set_7 rfl (lv_at hl 0 rfl) ?_
      refine lv_iload_n hx hb dX57_set_8 rfl (lv_at hl 1 rfl) ?_
      refine lv_iload_n hx hb dX57_set_9 rfl (lv_at hl 3 rfl) ?_
      refine lv_iadd hx hb dX57_set_10 ?_
      have e_2 := z_add (z_m (rfl : x1.toInt = _)) (z_m (rfl : x3.toInt = _))
      refine lv_iload_n hx hb dX57_set_11 rfl (lv_at hl 2 rfl) ?_
      refine lv_bipush (v := 24) hx hb dX57_set_12 (by decide) ?_
      refine lv_bipush (v := 8) hx hb dX57_set_14 (by decide) ?_
      refine lv_iload_n hx hb dX57_set_16 rfl (lv_at hl 3 rfl) ?_
      refine lv_imul hx hb dX57_set_17 ?_
      have e_3 := z_mul (z_m (rfl : (8 : Int32).toInt = 8)) (z_m (rfl : x3.toInt = _))
      refine lv_isub hx hb dX57_set_18 ?_
      have e_4 := z_sub (z_m (rfl : (24 : Int32).toInt = 24)) e_3
      have hq_5 := hw.1
      have hw := hw.2
      have e_6 := z_x e_4 hq_5
      refine lv_ishr hx hb dX57_set_19 ?_
      have hq_7 := hw.1
      have hw := hw.2
      have e_8 := z_shrV (rfl : x2.toInt = _) e_6 hq_7
      refine lv_sipush (v := 255) hx hb dX57_set_20 (by decide) ?_
      refine lv_iand hx hb dX57_set_23 ?_
      have e_9 := z_mask (z_m e_8) (k := 8) (m := 255) (c := 256) (by decide)
      refine lv_topi (fun v_10 ev_10 => ?_)
      have hw := hw v_10.toInt (by rw [ev_10]; exact e_9)
      have hq_12 := hw.1
      have hw := hw.2
      have e_13 := z_xi e_2 hq_12 (by decide)
      obtain ⟨f_open_11, ef_open_11⟩ : ∃ y : Nat → Int32, y = upd f_open (x1 + x3).toNatClampNeg v_10 := ⟨_, rfl⟩
      refine k_iast X hH 3 2 rfl rfl (z_in e_13 hq_12) dX57_set_24 ef_open_11 (ws1 := (wX57 ci ad d f_count f_runs f_full f_disk f_later f_open_11 f_laid f_places f_changed f_targets f_bytes f_first f_behind f_numbers f_sectors f_oldest f_newest f_keptNumbers f_keptSectors f_kept f_thrown f_head)) rfl (fun H locs hH => ?_)
      have hw := hw (zF f_open_11) (by rw [ef_open_11]; exact z_st (f := f_open) e_13 hq_12.1 (rfl : v_10.toInt = _))
      have hq_15 := hw.1
      have hw := hw.2
      obtain ⟨x3_14, ex3_14⟩ : ∃ y : Int32, y = x3 + 1 := ⟨_, rfl⟩
      have hw := hw x3_14.toInt (by rw [ex3_14]; exact (z_x (z_add (z_m (rfl : x3.toInt = _)) (z_m (rfl : (1 : Int32).toInt = 1))) hq_15))
      refine lv_iinc (v := x3_14) (lv' := [(3, .int x3_14), (0, .ref (ad 3)), (1, .int x1), (2, .int x2)]) hx hb dX57_set_25 hl (k := 3) rfl (by rw [ex3_14]; rfl) (by decide) rfl (fun ls hl => ?_)
      refine lv_goto (tgt := 2) hx hb dX57_set_28 (by decide) ?_
      exact ih x3_14 f_open_11 hw _ _ ls hH (lv_sub hl [1, 2, 3, 0] rfl)
set_option maxHeartbeats 4000000 in
theorem walkX57_set_open {l : Launch} {dC : Nat → ClassId} {dI : Nat → Nat → Nat} {cl : List vw_C} {ci : Nat} (hc : cl[ci]? = some (RX57, TX57, 22)) {ad : Nat → Nat} {d : Nat → ClassId} {sz : Nat} {f_count : Int32} {f_runs : Int32} {f_full : Int32} {f_disk : Nat → Int32} {f_later : Nat → Int32} {f_open : Nat → Int32} {f_laid : Nat → Int32} {f_places : Nat → Int32} {f_changed : Int32} {f_targets : Nat → Int32} {f_bytes : Nat → Int32} {f_first : Int32} {f_behind : Int32} {f_numbers : Nat → Int32} {f_sectors : Nat → Int64} {f_oldest : Int32} {f_newest : Int32} {f_keptNumbers : Nat → Int32} {f_keptSectors : Nat → Int64} {f_kept : Int32} {f_thrown : Int32} {f_head : Nat → Int32} {x1 : Int32} {x2 : Int32} {post : (Int → Int) → Prop} (hw : wpX57_set_open post (zF f_open) x1.toInt x2.toInt) :
    Met l yX57_set (ws_ yX57_set cX57_set 4 none) ({ frames := 0, cells := 0, slots := 0, locals := 0 } : Room) (kPc (dC, dI) cl (tX57 d) [.ref (ad 3), .int x1, .int x2] sz (wX57 ci ad d f_count f_runs f_full f_disk f_later f_open f_laid f_places f_changed f_targets f_bytes f_first f_behind f_numbers f_sectors f_oldest f_newest f_keptNumbers f_keptSectors f_kept f_thrown f_head)) (va_Qv (fun (u : (Nat → Int32)) => post (zF (u))) (kB (dC, dI) cl (tX57 d) (va_A (wX57 ci ad d f_count f_runs f_full f_disk f_later f_open f_laid f_places f_changed f_targets f_bytes f_first f_behind f_numbers f_sectors f_oldest f_newest f_keptNumbers f_keptSectors f_kept f_thrown f_head) sz) (fun u : (Nat → Int32) => (wX57 ci ad d f_count f_runs f_full f_disk f_later (u) f_laid f_places f_changed f_targets f_bytes f_first f_behind f_numbers f_sectors f_oldest f_newest f_keptNumbers f_keptSectors f_kept f_thrown f_head))) (va_A (wX57 ci ad d f_count f_runs f_full f_disk f_later f_open f_laid f_places f_changed f_targets f_bytes f_first f_behind f_numbers f_sectors f_oldest f_newest f_keptNumbers f_keptSectors f_kept f_thrown f_head) sz)) 0 0 (va_A (wX57 ci ad d f_count f_runs f_full f_disk f_later f_open f_laid f_places f_changed f_targets f_bytes f_first f_behind f_numbers f_sectors f_oldest f_newest f_keptNumbers f_keptSectors f_kept f_thrown f_head) sz) := by
  refine k_enter (by decide) (Nat.le_of_ble_eq_true rfl) ?_
  intro p e s m below meth c ls X hsz hH hl
  subst hsz
  generalize va_A (wX57 ci ad d f_count f_runs f_full f_disk f_later f_open f_laid f_places f_changed f_targets f_bytes f_first f_behind f_numbers f_sectors f_oldest f_newest f_keptNumbers f_keptSectors f_kept f_thrown f_head) s.heap.size = A at hH ⊢
  have hx := X.1.1
  have hb := X.1.2.1
  have hl : lv_has ls 4 [(0, .ref (ad 3)), (1, .int x1), (2, .int x2)] := hl
  unfold wpX57_set_open at hw
  refine lv_iconst (v := 0) hx hb dX57_set_0 (by decide) ?_
  refine lv_istore_n (lv' := [(3, .int 0), (0, .ref (ad 3)), (1, .int x1), (2, .int x2)]) hx hb dX57_set_1 rfl hl (by decide) rfl (fun ls hl => ?_)
  obtain ⟨fu, hw⟩ := hw
  refine atX57_set_open_2 hc X ?_ fu 0 f_open hw _ _ ls hH (lv_sub hl [1, 2, 3, 0] rfl)
  · intro f_open_16 hw H locs ls hH hl
    exact k_vret X hH (f_open_16) hw rfl dX57_set_31
set_option maxHeartbeats 4000000 in
theorem walkX57_setWide_open {l : Launch} {dC : Nat → ClassId} {dI : Nat → Nat → Nat} {cl : List vw_C} {ci : Nat} (hc : cl[ci]? = some (RX57, TX57, 22)) {ad : Nat → Nat} {d : Nat → ClassId} {sz : Nat} {f_count : Int32} {f_runs : Int32} {f_full : Int32} {f_disk : Nat → Int32} {f_later : Nat → Int32} {f_open : Nat → Int32} {f_laid : Nat → Int32} {f_places : Nat → Int32} {f_changed : Int32} {f_targets : Nat → Int32} {f_bytes : Nat → Int32} {f_first : Int32} {f_behind : Int32} {f_numbers : Nat → Int32} {f_sectors : Nat → Int64} {f_oldest : Int32} {f_newest : Int32} {f_keptNumbers : Nat → Int32} {f_keptSectors : Nat → Int64} {f_kept : Int32} {f_thrown : Int32} {f_head : Nat → Int32} {x1 : Int32} {x2 : Int64} {post : (Int → Int) → Prop} (hw : wpX57_setWide_open post (zF f_open) x1.toInt x2.toInt) :
    Met l yX57_setWide (ws_ yX57_setWide cX57_setWide 4 none) ({ frames := 1, cells := 0, slots := 0, locals := 23 } : Room) (kPc (dC, dI) cl (tX57 d) [.ref (ad 3), .int x1, .long x2] sz (wX57 ci ad d f_count f_runs f_full f_disk f_later f_open f_laid f_places f_changed f_targets f_bytes f_first f_behind f_numbers f_sectors f_oldest f_newest f_keptNumbers f_keptSectors f_kept f_thrown f_head)) (va_Qv (fun (u : (Nat → Int32)) => post (zF (u))) (kB (dC, dI) cl (tX57 d) (va_A (wX57 ci ad d f_count f_runs f_full f_disk f_later f_open f_laid f_places f_changed f_targets f_bytes f_first f_behind f_numbers f_sectors f_oldest f_newest f_keptNumbers f_keptSectors f_kept f_thrown f_head) sz) (fun u : (Nat → Int32) => (wX57 ci ad d f_count f_runs f_full f_disk f_later (u) f_laid f_places f_changed f_targets f_bytes f_first f_behind f_numbers f_sectors f_oldest f_newest f_keptNumbers f_keptSectors f_kept f_thrown f_head))) (va_A (wX57 ci ad d f_count f_runs f_full f_disk f_later f_open f_laid f_places f_changed f_targets f_bytes f_first f_behind f_numbers f_sectors f_oldest f_newest f_keptNumbers f_keptSectors f_kept f_thrown f_head) sz)) 0 0 (va_A (wX57 ci ad d f_count f_runs f_full f_disk f_later f_open f_laid f_places f_changed f_targets f_bytes f_first f_behind f_numbers f_sectors f_oldest f_newest f_keptNumbers f_keptSectors f_kept f_thrown f_head) sz) := by
  refine k_enter (by decide) (Nat.le_of_ble_eq_true rfl) ?_
  intro p e s m below meth c ls X hsz hH hl
  subst hsz
  generalize va_A (wX57 ci ad d f_count f_runs f_full f_disk f_later f_open f_laid f_places f_changed f_targets f_bytes f_first f_behind f_numbers f_sectors f_oldest f_newest f_keptNumbers f_keptSectors f_kept f_thrown f_head) s.heap.size = A at hH ⊢
  have hx := X.1.1
  have hb := X.1.2.1
  have hl : lv_has ls 4 [(0, .ref (ad 3)), (1, .int x1), (2, .long x2)] := hl
  unfold wpX57_setWide_open at hw
  refine lv_aload_n hx hb dX57_setWide_0 rfl (lv_at hl 0 rfl) ?_
  refine lv_iload_n hx hb dX57_setWide_1 rfl (lv_at hl 1 rfl) ?_
  refine lv_lload_n hx hb dX57_setWide_2 rfl (lv_at hl 2 rfl) ?_
  refine lv_bipush (v := 32) hx hb dX57_setWide_3 (by decide) ?_
  refine lv_lshr (v := x2 >>> ((32 : Int32).toInt64 &&& 63)) hx hb dX57_setWide_5 rfl ?_
  have e_1 := zL_shr (rfl : x2.toInt = _) (k := 32) (m := 32) (c := 4294967296) (by decide)
  refine lv_l2i (v := (x2 >>> ((32 : Int32).toInt64 &&& 63)).toInt32) hx hb dX57_setWide_6 rfl ?_
  have e_2 := z_l2i e_1
  refine k_v0 hH (k_runS (As := [.ref (ad 3), .int x1, .int ((x2 >>> ((32 : Int32).toInt64 &&& 63)).toInt32)]) (rest := []) X hH.1 hH.2.1 X.2.2.2 (walkX57_set_open hc (x1 := x1) (x2 := ((x2 >>> ((32 : Int32).toInt64 &&& 63)).toInt32)) (f_count := f_count) (f_runs := f_runs) (f_full := f_full) (f_disk := f_disk) (f_later := f_later) (f_open := f_open) (f_laid := f_laid) (f_places := f_places) (f_changed := f_changed) (f_targets := f_targets) (f_bytes := f_bytes) (f_first := f_first) (f_behind := f_behind) (f_numbers := f_numbers) (f_sectors := f_sectors) (f_oldest := f_oldest) (f_newest := f_newest) (f_keptNumbers := f_keptNumbers) (f_keptSectors := f_keptSectors) (f_kept := f_kept) (f_thrown := f_thrown) (f_head := f_head) (by rw [show ((x2 >>> ((32 : Int32).toInt64 &&& 63)).toInt32 : Int32).toInt = _ from e_2]; exact hw)) (va_cwS 3 X.1.2.2.2.2 gX57_84 rfl rfl rfl hX57_set ⟨Nat.le_of_ble_eq_true rfl, Nat.le_of_ble_eq_true rfl⟩) rfl hl.1 rfl (Nat.le_of_ble_eq_true rfl) dX57_setWide_7 ⟨Nat.le_refl 0, Nat.le_refl 0⟩) (fun u H locs hw hH => ?_)
  obtain ⟨f_open_3, eu⟩ : ∃ z, z = u := ⟨_, rfl⟩
  subst eu
  have hH : kH (dC, dI) cl A s.heap H locs (wX57 ci ad d f_count f_runs f_full f_disk f_later f_open_3 f_laid f_places f_changed f_targets f_bytes f_first f_behind f_numbers f_sectors f_oldest f_newest f_keptNumbers f_keptSectors f_kept f_thrown f_head) := hH
  refine lv_aload_n hx hb dX57_setWide_10 rfl (lv_at hl 0 rfl) ?_
  refine lv_iload_n hx hb dX57_setWide_11 rfl (lv_at hl 1 rfl) ?_
  refine lv_iconst (v := 4) hx hb dX57_setWide_12 (by decide) ?_
  refine lv_iadd hx hb dX57_setWide_13 ?_
  have e_4 := z_addw (rfl : x1.toInt = _) (rfl : (4 : Int32).toInt = 4)
  refine lv_lload_n hx hb dX57_setWide_14 rfl (lv_at hl 2 rfl) ?_
  refine lv_l2i (v := x2.toInt32) hx hb dX57_setWide_15 rfl ?_
  have e_5 := z_l2i (rfl : x2.toInt = _)
  refine k_v0 hH (k_runS (As := [.ref (ad 3), .int (x1 + 4), .int (x2.toInt32)]) (rest := []) X hH.1 hH.2.1 X.2.2.2 (walkX57_set_open hc (x1 := (x1 + 4)) (x2 := (x2.toInt32)) (f_count := f_count) (f_runs := f_runs) (f_full := f_full) (f_disk := f_disk) (f_later := f_later) (f_open := f_open_3) (f_laid := f_laid) (f_places := f_places) (f_changed := f_changed) (f_targets := f_targets) (f_bytes := f_bytes) (f_first := f_first) (f_behind := f_behind) (f_numbers := f_numbers) (f_sectors := f_sectors) (f_oldest := f_oldest) (f_newest := f_newest) (f_keptNumbers := f_keptNumbers) (f_keptSectors := f_keptSectors) (f_kept := f_kept) (f_thrown := f_thrown) (f_head := f_head) (by rw [show (x1 + 4 : Int32).toInt = _ from e_4, show (x2.toInt32 : Int32).toInt = _ from e_5]; exact hw)) (va_cwS 3 X.1.2.2.2.2 gX57_84 rfl rfl rfl hX57_set ⟨Nat.le_of_ble_eq_true rfl, Nat.le_of_ble_eq_true rfl⟩) rfl hl.1 rfl (Nat.le_of_ble_eq_true rfl) dX57_setWide_16 ⟨Nat.le_refl 0, Nat.le_refl 0⟩) (fun u H locs hw hH => ?_)
  obtain ⟨f_open_6, eu⟩ : ∃ z, z = u := ⟨_, rfl⟩
  subst eu
  have hH : kH (dC, dI) cl A s.heap H locs (wX57 ci ad d f_count f_runs f_full f_disk f_later f_open_6 f_laid f_places f_changed f_targets f_bytes f_first f_behind f_numbers f_sectors f_oldest f_newest f_keptNumbers f_keptSectors f_kept f_thrown f_head) := hH
  exact k_vret X hH (f_open_6) hw rfl dX57_setWide_19
set_option maxHeartbeats 4000000 in
theorem atX57_sum_open_4 {p : Program} {l : Launch} {e : Env} {s : State} {m : MethodId} {args : Array Value} {below : List Frame} {meth : Method} {c : Code} {dC : Nat → ClassId} {dI : Nat → Nat → Nat} {cl : List vw_C} {ci : Nat} (hc : cl[ci]? = some (RX57, TX57, 22)) {ad : Nat → Nat} {d : Nat → ClassId} {A : Nat → Prop} {post : Int → Prop} {f_count : Int32} {f_runs : Int32} {f_full : Int32} {f_disk : Nat → Int32} {f_later : Nat → Int32} {f_open : Nat → Int32} {f_laid : Nat → Int32} {f_places : Nat → Int32} {f_changed : Int32} {f_targets : Nat → Int32} {f_bytes : Nat → Int32} {f_first : Int32} {f_behind : Int32} {f_numbers : Nat → Int32} {f_sectors : Nat → Int64} {f_oldest : Int32} {f_newest : Int32} {f_keptNumbers : Nat → Int32} {f_keptSectors : Nat → Int64} {f_kept : Int32} {f_thrown : Int32} {f_head : Nat → Int32} (X : kX p s m args meth c cX57_sum 5 RX57 (some .int) (dC, dI) cl (tX57 d)) {K43 : Int → Prop} {x1 : Int32}  (hk43 : ∀ (x2 : Int32), K43 x2.toInt → ∀ (H : Heap) (locs : List Loc) (ls : Array Slot), kH (dC, dI) cl A s.heap H locs (wX57 ci ad d f_count f_runs f_full f_disk f_later f_open f_laid f_places f_changed f_targets f_bytes f_first f_behind f_numbers f_sectors f_oldest f_newest f_keptNumbers f_keptSectors f_kept f_thrown f_head) → lv_has ls 5 [(2, .int x2)] → W p l e ({ frames := 0, cells := 0, slots := 0, locals := 0 } : Room) s m args below meth c H locs 0 0 (MQ below (va_Qi (fun (r : Int32) (_ : Unit) => post r.toInt) (kB (dC, dI) cl (tX57 d) A (fun _ : Unit => (wX57 ci ad d f_count f_runs f_full f_disk f_later f_open f_laid f_places f_changed f_targets f_bytes f_first f_behind f_numbers f_sectors f_oldest f_newest f_keptNumbers f_keptSectors f_kept f_thrown f_head))) A) args s 0 0 A) (F0 m 43 ls [])) :
    ∀ (nn : Nat) (x2 : Int32) (x3 : Int32), wX57_sum_open_4 K43 x1.toInt (zF f_open) nn x2.toInt x3.toInt → ∀ (H : Heap) (locs : List Loc) (ls : Array Slot), kH (dC, dI) cl A s.heap H locs (wX57 ci ad d f_count f_runs f_full f_disk f_later f_open f_laid f_places f_changed f_targets f_bytes f_first f_behind f_numbers f_sectors f_oldest f_newest f_keptNumbers f_keptSectors f_kept f_thrown f_head) → lv_has ls 5 [(0, .ref (ad 3)), (1, .int x1), (2, .int x2), (3, .int x3)] → W p l e ({ frames := 0, cells := 0, slots := 0, locals := 0 } : Room) s m args below meth c H locs 0 0 (MQ below (va_Qi (fun (r : Int32) (_ : Unit) => post r.toInt) (kB (dC, dI) cl (tX57 d) A (fun _ : Unit => (wX57 ci ad d f_count f_runs f_full f_disk f_later f_open f_laid f_places f_changed f_targets f_bytes f_first f_behind f_numbers f_sectors f_oldest f_newest f_keptNumbers f_keptSectors f_kept f_thrown f_head))) A) args s 0 0 A) (F0 m 4 ls []) := by
  have hx := X.1.1
  have hb := X.1.2.1
  intro nn
  induction nn with
  | zero =>
    intro x2 x3 hw
    exact False.elim hw
  | succ n ih =>
    intro x2 x3 hw H locs ls hH hl
    rw [wX57_sum_open_4] at hw
    refine lv_iload_n hx hb dX57_sum_4 rfl (lv_at hl 3 rfl) ?_
    refine lv_bipush (v := 32) hx hb dX57_sum_5 (by decide) ?_
    refine lv_icmp_ge (tgt := 43) hx hb dX57_sum_7 (by decide) (fun c_1 => ?_) (fun c_1 => ?_)
    · have hw := hw.1 (z_le (rfl : (32 : Int32).toInt = 32) (rfl : x3.toInt = _) c_1)
      exact hk43 x2 hw _ _ ls hH (lv_sub hl [2] rfl)
    · have hw := hw.2 (z_nle (rfl : (32 : Int32).toInt = 32) (rfl : x3.toInt = _) c_1)
      refine lv_iload_n hx hb dX57_sum_10 rfl (lv_at hl 2 rfl) ?_
      refine lv_aload_n hx hb dX57_sum_11 rfl (lv_at hl 0 rfl) ?_
      refine lv_bipush (v := 32) hx hb dX57_sum_12 (by decide) ?_
      refine lv_iload_n hx hb dX57_sum_14 rfl (lv_at hl 1 rfl) ?_
      refine lv_imul hx hb dX57_sum_15 ?_
      have e_2 := z_mulw (rfl : (32 : Int32).toInt = 32) (rfl : x1.toInt = _)
      refine lv_iload_n hx hb dX57_sum_16 rfl (lv_at hl 3 rfl) ?_
      refine lv_iadd hx hb dX57_sum_17 ?_
      have e_3 := z_addw e_2 (rfl : x3.toInt = _)
      have hq_4 := hw.1
      have hw := hw.2
      refine k_iald X hH 3 2 rfl rfl (z_in e_3 hq_4) dX57_sum_18 ?_
      have e_5 := z_ld (f := f_open) e_3 hq_4.1
      refine lv_ixor hx hb dX57_sum_19 ?_
      have e_6 := z_xor (z_m (rfl : x2.toInt = _)) (z_m e_5)
      refine lv_topi (fun x4_7 ex4_7 => ?_)
      have hw := hw x4_7.toInt (by rw [ex4_7]; exact e_6)
      refine lv_istore (lv' := [(4, .int x4_7), (0, .ref (ad 3)), (1, .int x1), (2, .int x2), (3, .int x3)]) hx hb dX57_sum_20 hl (by decide) rfl (fun ls hl => ?_)
      refine lv_iload hx hb dX57_sum_22 (lv_at hl 0 rfl) ?_
      refine lv_bipush (v := 11) hx hb dX57_sum_24 (by decide) ?_
      refine lv_ishl hx hb dX57_sum_26 ?_
      have e_8 := z_shlw (rfl : x4_7.toInt = _) (k := 11) (m := 11) (c := 2048) (by decide)
      refine lv_iload hx hb dX57_sum_27 (lv_at hl 0 rfl) ?_
      refine lv_bipush (v := 21) hx hb dX57_sum_29 (by decide) ?_
      refine lv_iushr (v := (x4_7.toUInt32 >>> ((21 : Int32).toUInt32 &&& Int32.toUInt32 31)).toInt32) hx hb dX57_sum_31 rfl ?_
      have e_9 := z_ushr (rfl : x4_7.toInt = _) (k := 21) (m := 21) (c := 2097152) (by decide) (by decide)
      refine lv_ior hx hb dX57_sum_32 ?_
      have e_10 := z_or (z_m e_8) (z_m e_9)
      refine lv_ldc (v := (-2048144777)) hx hb X.1.2.2.2.1 (X.1.2.2.2.2 _ q7857) dX57_sum_33 ?_
      refine lv_imul hx hb dX57_sum_35 ?_
      have e_11 := z_mulw e_10 (rfl : ((-2048144777) : Int32).toInt = (-2048144777))
      refine lv_topi (fun x2_12 ex2_12 => ?_)
      have hw := hw x2_12.toInt (by rw [ex2_12]; exact e_11)
      refine lv_istore_n (lv' := [(2, .int x2_12), (4, .int x4_7), (0, .ref (ad 3)), (1, .int x1), (3, .int x3)]) hx hb dX57_sum_36 rfl hl (by decide) rfl (fun ls hl => ?_)
      obtain ⟨x3_13, ex3_13⟩ : ∃ y : Int32, y = x3 + 1 := ⟨_, rfl⟩
      have hw := hw x3_13.toInt (by rw [ex3_13]; exact (z_addw (rfl : x3.toInt = _) (rfl : (1 : Int32).toInt = 1)))
      refine lv_iinc (v := x3_13) (lv' := [(3, .int x3_13), (2, .int x2_12), (4, .int x4_7), (0, .ref (ad 3)), (1, .int x1)]) hx hb dX57_sum_37 hl (k := 4) rfl (by rw [ex3_13]; rfl) (by decide) rfl (fun ls hl => ?_)
      refine lv_goto (tgt := 4) hx hb dX57_sum_40 (by decide) ?_
      exact ih x2_12 x3_13 hw _ _ ls hH (lv_sub hl [3, 4, 1, 0] rfl)
set_option maxHeartbeats 4000000 in
theorem walkX57_sum_open {l : Launch} {dC : Nat → ClassId} {dI : Nat → Nat → Nat} {cl : List vw_C} {ci : Nat} (hc : cl[ci]? = some (RX57, TX57, 22)) {ad : Nat → Nat} {d : Nat → ClassId} {sz : Nat} {f_count : Int32} {f_runs : Int32} {f_full : Int32} {f_disk : Nat → Int32} {f_later : Nat → Int32} {f_open : Nat → Int32} {f_laid : Nat → Int32} {f_places : Nat → Int32} {f_changed : Int32} {f_targets : Nat → Int32} {f_bytes : Nat → Int32} {f_first : Int32} {f_behind : Int32} {f_numbers : Nat → Int32} {f_sectors : Nat → Int64} {f_oldest : Int32} {f_newest : Int32} {f_keptNumbers : Nat → Int32} {f_keptSectors : Nat → Int64} {f_kept : Int32} {f_thrown : Int32} {f_head : Nat → Int32} {x1 : Int32} {post : Int → Prop} (hw : wpX57_sum_open post (zF f_open) x1.toInt) :
    Met l yX57_sum (ws_ yX57_sum cX57_sum 5 (some .int)) ({ frames := 0, cells := 0, slots := 0, locals := 0 } : Room) (kPc (dC, dI) cl (tX57 d) [.ref (ad 3), .int x1] sz (wX57 ci ad d f_count f_runs f_full f_disk f_later f_open f_laid f_places f_changed f_targets f_bytes f_first f_behind f_numbers f_sectors f_oldest f_newest f_keptNumbers f_keptSectors f_kept f_thrown f_head)) (va_Qi (fun (r : Int32) (_ : Unit) => post r.toInt) (kB (dC, dI) cl (tX57 d) (va_A (wX57 ci ad d f_count f_runs f_full f_disk f_later f_open f_laid f_places f_changed f_targets f_bytes f_first f_behind f_numbers f_sectors f_oldest f_newest f_keptNumbers f_keptSectors f_kept f_thrown f_head) sz) (fun _ : Unit => (wX57 ci ad d f_count f_runs f_full f_disk f_later f_open f_laid f_places f_changed f_targets f_bytes f_first f_behind f_numbers f_sectors f_oldest f_newest f_keptNumbers f_keptSectors f_kept f_thrown f_head))) (va_A (wX57 ci ad d f_count f_runs f_full f_disk f_later f_open f_laid f_places f_changed f_targets f_bytes f_first f_behind f_numbers f_sectors f_oldest f_newest f_keptNumbers f_keptSectors f_kept f_thrown f_head) sz)) 0 0 (va_A (wX57 ci ad d f_count f_runs f_full f_disk f_later f_open f_laid f_places f_changed f_targets f_bytes f_first f_behind f_numbers f_sectors f_oldest f_newest f_keptNumbers f_keptSectors f_kept f_thrown f_head) sz) := by
  refine k_enter (by decide) (Nat.le_of_ble_eq_true rfl) ?_
  intro p e s m below meth c ls X hsz hH hl
  subst hsz
  generalize va_A (wX57 ci ad d f_count f_runs f_full f_disk f_later f_open f_laid f_places f_changed f_targets f_bytes f_first f_behind f_numbers f_sectors f_oldest f_newest f_keptNumbers f_keptSectors f_kept f_thrown f_head) s.heap.size = A at hH ⊢
  have hx := X.1.1
  have hb := X.1.2.1
  have hl : lv_has ls 5 [(0, .ref (ad 3)), (1, .int x1)] := hl
  unfold wpX57_sum_open at hw
  refine lv_iconst (v := 0) hx hb dX57_sum_0 (by decide) ?_
  refine lv_istore_n (lv' := [(2, .int 0), (0, .ref (ad 3)), (1, .int x1)]) hx hb dX57_sum_1 rfl hl (by decide) rfl (fun ls hl => ?_)
  refine lv_iconst (v := 4) hx hb dX57_sum_2 (by decide) ?_
  refine lv_istore_n (lv' := [(3, .int 4), (2, .int 0), (0, .ref (ad 3)), (1, .int x1)]) hx hb dX57_sum_3 rfl hl (by decide) rfl (fun ls hl => ?_)
  obtain ⟨fu, hw⟩ := hw
  refine atX57_sum_open_4 hc X ?_ fu 0 4 hw _ _ ls hH (lv_sub hl [2, 3, 1, 0] rfl)
  · intro x2_14 hw H locs ls hH hl
    refine lv_iload_n hx hb dX57_sum_43 rfl (lv_at hl 0 rfl) ?_
    exact k_iret (v := x2_14) X hH () hw rfl rfl dX57_sum_44
set_option maxHeartbeats 4000000 in
theorem walkX57_close_open {l : Launch} {dC : Nat → ClassId} {dI : Nat → Nat → Nat} {cl : List vw_C} {ci : Nat} (hc : cl[ci]? = some (RX57, TX57, 22)) {ad : Nat → Nat} {d : Nat → ClassId} {sz : Nat} {f_count : Int32} {f_runs : Int32} {f_full : Int32} {f_disk : Nat → Int32} {f_later : Nat → Int32} {f_open : Nat → Int32} {f_laid : Nat → Int32} {f_places : Nat → Int32} {f_changed : Int32} {f_targets : Nat → Int32} {f_bytes : Nat → Int32} {f_first : Int32} {f_behind : Int32} {f_numbers : Nat → Int32} {f_sectors : Nat → Int64} {f_oldest : Int32} {f_newest : Int32} {f_keptNumbers : Nat → Int32} {f_keptSectors : Nat → Int64} {f_kept : Int32} {f_thrown : Int32} {f_head : Nat → Int32} {x1 : Int32} {post : (Int → Int) → Prop} (hw : wpX57_close_open post (zF f_open) x1.toInt) :
    Met l yX57_close (ws_ yX57_close cX57_close 2 none) ({ frames := 1, cells := 0, slots := 0, locals := 24 } : Room) (kPc (dC, dI) cl (tX57 d) [.ref (ad 3), .int x1] sz (wX57 ci ad d f_count f_runs f_full f_disk f_later f_open f_laid f_places f_changed f_targets f_bytes f_first f_behind f_numbers f_sectors f_oldest f_newest f_keptNumbers f_keptSectors f_kept f_thrown f_head)) (va_Qv (fun (u : (Nat → Int32)) => post (zF (u))) (kB (dC, dI) cl (tX57 d) (va_A (wX57 ci ad d f_count f_runs f_full f_disk f_later f_open f_laid f_places f_changed f_targets f_bytes f_first f_behind f_numbers f_sectors f_oldest f_newest f_keptNumbers f_keptSectors f_kept f_thrown f_head) sz) (fun u : (Nat → Int32) => (wX57 ci ad d f_count f_runs f_full f_disk f_later (u) f_laid f_places f_changed f_targets f_bytes f_first f_behind f_numbers f_sectors f_oldest f_newest f_keptNumbers f_keptSectors f_kept f_thrown f_head))) (va_A (wX57 ci ad d f_count f_runs f_full f_disk f_later f_open f_laid f_places f_changed f_targets f_bytes f_first f_behind f_numbers f_sectors f_oldest f_newest f_keptNumbers f_keptSectors f_kept f_thrown f_head) sz)) 0 0 (va_A (wX57 ci ad d f_count f_runs f_full f_disk f_later f_open f_laid f_places f_changed f_targets f_bytes f_first f_behind f_numbers f_sectors f_oldest f_newest f_keptNumbers f_keptSectors f_kept f_thrown f_head) sz) := by
  refine k_enter (by decide) (Nat.le_of_ble_eq_true rfl) ?_
  intro p e s m below meth c ls X hsz hH hl
  subst hsz
  generalize va_A (wX57 ci ad d f_count f_runs f_full f_disk f_later f_open f_laid f_places f_changed f_targets f_bytes f_first f_behind f_numbers f_sectors f_oldest f_newest f_keptNumbers f_keptSectors f_kept f_thrown f_head) s.heap.size = A at hH ⊢
  have hx := X.1.1
  have hb := X.1.2.1
  have hl : lv_has ls 2 [(0, .ref (ad 3)), (1, .int x1)] := hl
  unfold wpX57_close_open at hw
  refine lv_aload_n hx hb dX57_close_0 rfl (lv_at hl 0 rfl) ?_
  refine lv_bipush (v := 32) hx hb dX57_close_1 (by decide) ?_
  refine lv_iload_n hx hb dX57_close_3 rfl (lv_at hl 1 rfl) ?_
  refine lv_imul hx hb dX57_close_4 ?_
  have e_1 := z_mul (z_m (rfl : (32 : Int32).toInt = 32)) (z_m (rfl : x1.toInt = _))
  refine lv_aload_n hx hb dX57_close_5 rfl (lv_at hl 0 rfl) ?_
  refine lv_iload_n hx hb dX57_close_6 rfl (lv_at hl 1 rfl) ?_
  refine k_i0 hH (k_runS (As := [.ref (ad 3), .int x1]) (rest := [.int (32 * x1), .ref (ad 3)]) X hH.1 hH.2.1 X.2.2.2 (walkX57_sum_open hc (x1 := x1) (f_count := f_count) (f_runs := f_runs) (f_full := f_full) (f_disk := f_disk) (f_later := f_later) (f_open := f_open) (f_laid := f_laid) (f_places := f_places) (f_changed := f_changed) (f_targets := f_targets) (f_bytes := f_bytes) (f_first := f_first) (f_behind := f_behind) (f_numbers := f_numbers) (f_sectors := f_sectors) (f_oldest := f_oldest) (f_newest := f_newest) (f_keptNumbers := f_keptNumbers) (f_keptSectors := f_keptSectors) (f_kept := f_kept) (f_thrown := f_thrown) (f_head := f_head) hw) (va_cwS 2 X.1.2.2.2.2 gX57_80 rfl rfl rfl hX57_sum ⟨Nat.le_of_ble_eq_true rfl, Nat.le_of_ble_eq_true rfl⟩) rfl hl.1 rfl (Nat.le_of_ble_eq_true rfl) dX57_close_7 ⟨Nat.le_refl 0, Nat.le_refl 0⟩) (fun r_2 _ H locs hw hH => ?_)
  have hH : kH (dC, dI) cl A s.heap H locs (wX57 ci ad d f_count f_runs f_full f_disk f_later f_open f_laid f_places f_changed f_targets f_bytes f_first f_behind f_numbers f_sectors f_oldest f_newest f_keptNumbers f_keptSectors f_kept f_thrown f_head) := hH
  have hq_3 := hw.1
  have hw := hw.2
  have e_4 := z_x e_1 hq_3
  refine k_v0 hH (k_runS (As := [.ref (ad 3), .int (32 * x1), .int r_2]) (rest := []) X hH.1 hH.2.1 X.2.2.2 (walkX57_set_open hc (x1 := (32 * x1)) (x2 := r_2) (f_count := f_count) (f_runs := f_runs) (f_full := f_full) (f_disk := f_disk) (f_later := f_later) (f_open := f_open) (f_laid := f_laid) (f_places := f_places) (f_changed := f_changed) (f_targets := f_targets) (f_bytes := f_bytes) (f_first := f_first) (f_behind := f_behind) (f_numbers := f_numbers) (f_sectors := f_sectors) (f_oldest := f_oldest) (f_newest := f_newest) (f_keptNumbers := f_keptNumbers) (f_keptSectors := f_keptSectors) (f_kept := f_kept) (f_thrown := f_thrown) (f_head := f_head) (by rw [show (32 * x1 : Int32).toInt = _ from e_4]; exact hw)) (va_cwS 3 X.1.2.2.2.2 gX57_84 rfl rfl rfl hX57_set ⟨Nat.le_of_ble_eq_true rfl, Nat.le_of_ble_eq_true rfl⟩) rfl hl.1 rfl (Nat.le_of_ble_eq_true rfl) dX57_close_10 ⟨Nat.le_refl 0, Nat.le_refl 0⟩) (fun u H locs hw hH => ?_)
  obtain ⟨f_open_5, eu⟩ : ∃ z, z = u := ⟨_, rfl⟩
  subst eu
  have hH : kH (dC, dI) cl A s.heap H locs (wX57 ci ad d f_count f_runs f_full f_disk f_later f_open_5 f_laid f_places f_changed f_targets f_bytes f_first f_behind f_numbers f_sectors f_oldest f_newest f_keptNumbers f_keptSectors f_kept f_thrown f_head) := hH
  exact k_vret X hH (f_open_5) hw rfl dX57_close_13
set_option maxHeartbeats 4000000 in
theorem atX57_lay_30 {p : Program} {l : Launch} {e : Env} {s : State} {m : MethodId} {args : Array Value} {below : List Frame} {meth : Method} {c : Code} {dC : Nat → ClassId} {dI : Nat → Nat → Nat} {cl : List vw_C} {ci : Nat} (hc : cl[ci]? = some (RX57, TX57, 22)) {ad : Nat → Nat} {d : Nat → ClassId} {A : Nat → Prop} {post : Int → (Int → Int) → (Int → Int) → (Int → Int) → Int → Prop} {f_count : Int32} {f_runs : Int32} {f_full : Int32} {f_disk : Nat → Int32} {f_later : Nat → Int32} {f_targets : Nat → Int32} {f_bytes : Nat → Int32} {f_first : Int32} {f_behind : Int32} {f_numbers : Nat → Int32} {f_sectors : Nat → Int64} {f_oldest : Int32} {f_newest : Int32} {f_keptNumbers : Nat → Int32} {f_keptSectors : Nat → Int64} {f_kept : Int32} {f_thrown : Int32} {f_head : Nat → Int32} (X : kX p s m args meth c cX57_lay 8 RX57 (some .int) (dC, dI) cl (tX57 d)) {K57 : (Int → Int) → Prop} {x1 : Int32} {x2 : Int32} {x3 : Int32} {x4 : Int64} {x6 : Int32} {f_laid : Nat → Int32} {f_places : Nat → Int32} {f_changed : Int32} (hk57 : ∀ (f_open : Nat → Int32), K57 (zF f_open) → ∀ (H : Heap) (locs : List Loc) (ls : Array Slot), kH (dC, dI) cl A s.heap H locs (wX57 ci ad d f_count f_runs f_full f_disk f_later f_open f_laid f_places f_changed f_targets f_bytes f_first f_behind f_numbers f_sectors f_oldest f_newest f_keptNumbers f_keptSectors f_kept f_thrown f_head) → lv_has ls 8 [(0, .ref (ad 0)), (1, .int x1), (2, .int x2), (3, .int x3), (4, .long x4), (6, .int x6)] → W p l e ({ frames := 3, cells := 0, slots := 0, locals := 67 } : Room) s m args below meth c H locs 0 0 (MQ below (va_Qi (fun (r : Int32) (u : (Nat → Int32) × (Nat → Int32) × (Nat → Int32) × Int32) => post r.toInt (zF (u.1)) (zF (u.2.1)) (zF (u.2.2.1)) (u.2.2.2).toInt) (kB (dC, dI) cl (tX57 d) A (fun u : (Nat → Int32) × (Nat → Int32) × (Nat → Int32) × Int32 => (wX57 ci ad d f_count f_runs f_full f_disk f_later (u.1) (u.2.1) (u.2.2.1) (u.2.2.2) f_targets f_bytes f_first f_behind f_numbers f_sectors f_oldest f_newest f_keptNumbers f_keptSectors f_kept f_thrown f_head))) A) args s 0 0 A) (F0 m 57 ls [])) :
    ∀ (nn : Nat) (x7 : Int32) (f_open : Nat → Int32), wX57_lay_30 K57 x6.toInt nn x7.toInt (zF f_open) → ∀ (H : Heap) (locs : List Loc) (ls : Array Slot), kH (dC, dI) cl A s.heap H locs (wX57 ci ad d f_count f_runs f_full f_disk f_later f_open f_laid f_places f_changed f_targets f_bytes f_first f_behind f_numbers f_sectors f_oldest f_newest f_keptNumbers f_keptSectors f_kept f_thrown f_head) → lv_has ls 8 [(0, .ref (ad 0)), (1, .int x1), (2, .int x2), (3, .int x3), (4, .long x4), (6, .int x6), (7, .int x7)] → W p l e ({ frames := 3, cells := 0, slots := 0, locals := 67 } : Room) s m args below meth c H locs 0 0 (MQ below (va_Qi (fun (r : Int32) (u : (Nat → Int32) × (Nat → Int32) × (Nat → Int32) × Int32) => post r.toInt (zF (u.1)) (zF (u.2.1)) (zF (u.2.2.1)) (u.2.2.2).toInt) (kB (dC, dI) cl (tX57 d) A (fun u : (Nat → Int32) × (Nat → Int32) × (Nat → Int32) × Int32 => (wX57 ci ad d f_count f_runs f_full f_disk f_later (u.1) (u.2.1) (u.2.2.1) (u.2.2.2) f_targets f_bytes f_first f_behind f_numbers f_sectors f_oldest f_newest f_keptNumbers f_keptSectors f_kept f_thrown f_head))) A) args s 0 0 A) (F0 m 30 ls []) := by
  have hx := X.1.1
  have hb := X.1.2.1
  intro nn
  induction nn with
  | zero =>
    intro x7 f_open hw
    exact False.elim hw
  | succ n ih =>
    intro x7 f_open hw H locs ls hH hl
    rw [wX57_lay_30] at hw
    refine lv_iload hx hb dX57_lay_30 (lv_at hl 6 rfl) ?_
    refine lv_bipush (v := 32) hx hb dX57_lay_32 (by decide) ?_
    refine lv_icmp_ge (tgt := 57) hx hb dX57_lay_34 (by decide) (fun c_5 => ?_) (fun c_5 => ?_)
    · have hw := hw.1 (z_le (rfl : (32 : Int32).toInt = 32) (rfl : x7.toInt = _) c_5)
      exact hk57 f_open hw _ _ ls hH (lv_sub hl [0, 1, 2, 3, 4, 5] rfl)
    · have hw := hw.2 (z_nle (rfl : (32 : Int32).toInt = 32) (rfl : x7.toInt = _) c_5)
      refine lv_aload_n hx hb dX57_lay_37 rfl (lv_at hl 0 rfl) ?_
      refine k_get X hH in_X57 0 rfl hc 5 (by decide) q6795 rfl dX57_lay_38 ?_
      refine lv_bipush (v := 32) hx hb dX57_lay_41 (by decide) ?_
      refine lv_iload hx hb dX57_lay_43 (lv_at hl 5 rfl) ?_
      refine lv_imul hx hb dX57_lay_45 ?_
      have e_6 := z_mul (z_m (rfl : (32 : Int32).toInt = 32)) (z_m (rfl : x6.toInt = _))
      refine lv_iload hx hb dX57_lay_46 (lv_at hl 6 rfl) ?_
      refine lv_iadd hx hb dX57_lay_48 ?_
      have e_7 := z_add e_6 (z_m (rfl : x7.toInt = _))
      refine lv_iconst (v := 0) hx hb dX57_lay_49 (by decide) ?_
      have hq_9 := hw.1
      have hw := hw.2
      have e_10 := z_xi e_7 hq_9 (by decide)
      obtain ⟨f_open_8, ef_open_8⟩ : ∃ y : Nat → Int32, y = upd f_open ((32 * x6) + x7).toNatClampNeg 0 := ⟨_, rfl⟩
      refine k_iast X hH 3 2 rfl rfl (z_in e_10 hq_9) dX57_lay_50 ef_open_8 (ws1 := (wX57 ci ad d f_count f_runs f_full f_disk f_later f_open_8 f_laid f_places f_changed f_targets f_bytes f_first f_behind f_numbers f_sectors f_oldest f_newest f_keptNumbers f_keptSectors f_kept f_thrown f_head)) rfl (fun H locs hH => ?_)
      have hw := hw (zF f_open_8) (by rw [ef_open_8]; exact z_st (f := f_open) e_10 hq_9.1 (rfl : (0 : Int32).toInt = 0))
      have hq_12 := hw.1
      have hw := hw.2
      obtain ⟨x7_11, ex7_11⟩ : ∃ y : Int32, y = x7 + 1 := ⟨_, rfl⟩
      have hw := hw x7_11.toInt (by rw [ex7_11]; exact (z_x (z_add (z_m (rfl : x7.toInt = _)) (z_m (rfl : (1 : Int32).toInt = 1))) hq_12))
      refine lv_iinc (v := x7_11) (lv' := [(7, .int x7_11), (0, .ref (ad 0)), (1, .int x1), (2, .int x2), (3, .int x3), (4, .long x4), (6, .int x6)]) hx hb dX57_lay_51 hl (k := 6) rfl (by rw [ex7_11]; rfl) (by decide) rfl (fun ls hl => ?_)
      refine lv_goto (tgt := 30) hx hb dX57_lay_54 (by decide) ?_
      exact ih x7_11 f_open_8 hw _ _ ls hH (lv_sub hl [1, 2, 3, 4, 5, 6, 0] rfl)
set_option maxHeartbeats 4000000 in
theorem atX57_lay_145 {p : Program} {l : Launch} {e : Env} {s : State} {m : MethodId} {args : Array Value} {below : List Frame} {meth : Method} {c : Code} {dC : Nat → ClassId} {dI : Nat → Nat → Nat} {cl : List vw_C} {ci : Nat} (hc : cl[ci]? = some (RX57, TX57, 22)) {ad : Nat → Nat} {d : Nat → ClassId} {A : Nat → Prop} {post : Int → (Int → Int) → (Int → Int) → (Int → Int) → Int → Prop} {f_count : Int32} {f_runs : Int32} {f_full : Int32} {f_disk : Nat → Int32} {f_later : Nat → Int32} {f_targets : Nat → Int32} {f_bytes : Nat → Int32} {f_first : Int32} {f_behind : Int32} {f_numbers : Nat → Int32} {f_sectors : Nat → Int64} {f_oldest : Int32} {f_newest : Int32} {f_keptNumbers : Nat → Int32} {f_keptSectors : Nat → Int64} {f_kept : Int32} {f_thrown : Int32} {f_head : Nat → Int32} (X : kX p s m args meth c cX57_lay 8 RX57 (some .int) (dC, dI) cl (tX57 d))     :
    ∀ (x2 : Int32) (x6 : Int32) (f_open : Nat → Int32) (f_laid : Nat → Int32) (f_places : Nat → Int32) (f_changed : Int32), wX57_lay_145 post x2.toInt x6.toInt (zF f_open) (zF f_laid) (zF f_places) → ∀ (H : Heap) (locs : List Loc) (ls : Array Slot), kH (dC, dI) cl A s.heap H locs (wX57 ci ad d f_count f_runs f_full f_disk f_later f_open f_laid f_places f_changed f_targets f_bytes f_first f_behind f_numbers f_sectors f_oldest f_newest f_keptNumbers f_keptSectors f_kept f_thrown f_head) → lv_has ls 8 [(0, .ref (ad 0)), (2, .int x2), (6, .int x6)] → W p l e ({ frames := 3, cells := 0, slots := 0, locals := 67 } : Room) s m args below meth c H locs 0 0 (MQ below (va_Qi (fun (r : Int32) (u : (Nat → Int32) × (Nat → Int32) × (Nat → Int32) × Int32) => post r.toInt (zF (u.1)) (zF (u.2.1)) (zF (u.2.2.1)) (u.2.2.2).toInt) (kB (dC, dI) cl (tX57 d) A (fun u : (Nat → Int32) × (Nat → Int32) × (Nat → Int32) × Int32 => (wX57 ci ad d f_count f_runs f_full f_disk f_later (u.1) (u.2.1) (u.2.2.1) (u.2.2.2) f_targets f_bytes f_first f_behind f_numbers f_sectors f_oldest f_newest f_keptNumbers f_keptSectors f_kept f_thrown f_head))) A) args s 0 0 A) (F0 m 145 ls []) := by
  have hx := X.1.1
  have hb := X.1.2.1
  intro x2 x6 f_open f_laid f_places f_changed hw H locs ls hH hl
  unfold wX57_lay_145 at hw
  refine lv_aload_n hx hb dX57_lay_145 rfl (lv_at hl 0 rfl) ?_
  refine k_get X hH in_X57 0 rfl hc 6 (by decide) q6796 rfl dX57_lay_146 ?_
  refine lv_iload hx hb dX57_lay_149 (lv_at hl 2 rfl) ?_
  refine lv_iconst (v := 1) hx hb dX57_lay_151 (by decide) ?_
  have hq_39 := hw.1
  have hw := hw.2
  obtain ⟨f_laid_38, ef_laid_38⟩ : ∃ y : Nat → Int32, y = upd f_laid x6.toNatClampNeg (vp_nar .boolean 1) := ⟨_, rfl⟩
  refine k_zast X hH 4 3 rfl rfl (z_in (rfl : x6.toInt = _) hq_39) dX57_lay_152 ef_laid_38 (ws1 := (wX57 ci ad d f_count f_runs f_full f_disk f_later f_open f_laid_38 f_places f_changed f_targets f_bytes f_first f_behind f_numbers f_sectors f_oldest f_newest f_keptNumbers f_keptSectors f_kept f_thrown f_head)) rfl (fun H locs hH => ?_)
  have hw := hw (zF f_laid_38) (by rw [ef_laid_38]; exact z_st (f := f_laid) (rfl : x6.toInt = _) hq_39.1 (z_narZ (rfl : (1 : Int32).toInt = 1) (by decide)))
  refine lv_aload_n hx hb dX57_lay_153 rfl (lv_at hl 0 rfl) ?_
  refine k_get X hH in_X57 0 rfl hc 7 (by decide) q6797 rfl dX57_lay_154 ?_
  refine lv_iload_n hx hb dX57_lay_157 rfl (lv_at hl 1 rfl) ?_
  refine lv_iload hx hb dX57_lay_158 (lv_at hl 2 rfl) ?_
  have hq_41 := hw.1
  have hw := hw.2
  obtain ⟨f_places_40, ef_places_40⟩ : ∃ y : Nat → Int32, y = upd f_places x2.toNatClampNeg x6 := ⟨_, rfl⟩
  refine k_iast X hH 5 4 rfl rfl (z_in (rfl : x2.toInt = _) hq_41) dX57_lay_160 ef_places_40 (ws1 := (wX57 ci ad d f_count f_runs f_full f_disk f_later f_open f_laid_38 f_places_40 f_changed f_targets f_bytes f_first f_behind f_numbers f_sectors f_oldest f_newest f_keptNumbers f_keptSectors f_kept f_thrown f_head)) rfl (fun H locs hH => ?_)
  have hw := hw (zF f_places_40) (by rw [ef_places_40]; exact z_st (f := f_places) (rfl : x2.toInt = _) hq_41.1 (rfl : x6.toInt = _))
  refine lv_aload_n hx hb dX57_lay_161 rfl (lv_at hl 0 rfl) ?_
  refine lv_iconst (v := 1) hx hb dX57_lay_162 (by decide) ?_
  refine k_put X hH in_X57 tyX57_ok nmX57 0 rfl hc 8 (by decide) q6798 rfl (ty := .boolean) rfl rfl rfl (Nat.le_of_ble_eq_true rfl) dX57_lay_163 (ws1 := (wX57 ci ad d f_count f_runs f_full f_disk f_later f_open f_laid_38 f_places_40 1 f_targets f_bytes f_first f_behind f_numbers f_sectors f_oldest f_newest f_keptNumbers f_keptSectors f_kept f_thrown f_head)) rfl (fun H locs hH => ?_)
  refine lv_iload_n hx hb dX57_lay_166 rfl (lv_at hl 1 rfl) ?_
  exact k_iret (v := x2) X hH (f_open, f_laid_38, f_places_40, 1) hw rfl rfl dX57_lay_167
set_option maxHeartbeats 4000000 in
theorem walkX57_lay {l : Launch} {dC : Nat → ClassId} {dI : Nat → Nat → Nat} {cl : List vw_C} {ci : Nat} (hc : cl[ci]? = some (RX57, TX57, 22)) {ad : Nat → Nat} {d : Nat → ClassId} {sz : Nat} {f_count : Int32} {f_runs : Int32} {f_full : Int32} {f_disk : Nat → Int32} {f_later : Nat → Int32} {f_open : Nat → Int32} {f_laid : Nat → Int32} {f_places : Nat → Int32} {f_changed : Int32} {f_targets : Nat → Int32} {f_bytes : Nat → Int32} {f_first : Int32} {f_behind : Int32} {f_numbers : Nat → Int32} {f_sectors : Nat → Int64} {f_oldest : Int32} {f_newest : Int32} {f_keptNumbers : Nat → Int32} {f_keptSectors : Nat → Int64} {f_kept : Int32} {f_thrown : Int32} {f_head : Nat → Int32} {x1 : Int32} {x2 : Int32} {x3 : Int32} {x4 : Int64} {post : Int → (Int → Int) → (Int → Int) → (Int → Int) → Int → Prop} (hw : wpX57_lay post f_count.toInt f_full.toInt (zF f_open) (zF f_laid) (zF f_places) f_changed.toInt (zF f_targets) f_first.toInt f_behind.toInt (zG f_sectors) f_oldest.toInt f_newest.toInt (zG f_keptSectors) f_kept.toInt x1.toInt x2.toInt x3.toInt x4.toInt) :
    Met l yX57_lay (ws_ yX57_lay cX57_lay 8 (some .int)) ({ frames := 3, cells := 0, slots := 0, locals := 67 } : Room) (kPc (dC, dI) cl (tX57 d) [.ref (ad 0), .int x1, .int x2, .int x3, .long x4] sz (wX57 ci ad d f_count f_runs f_full f_disk f_later f_open f_laid f_places f_changed f_targets f_bytes f_first f_behind f_numbers f_sectors f_oldest f_newest f_keptNumbers f_keptSectors f_kept f_thrown f_head)) (va_Qi (fun (r : Int32) (u : (Nat → Int32) × (Nat → Int32) × (Nat → Int32) × Int32) => post r.toInt (zF (u.1)) (zF (u.2.1)) (zF (u.2.2.1)) (u.2.2.2).toInt) (kB (dC, dI) cl (tX57 d) (va_A (wX57 ci ad d f_count f_runs f_full f_disk f_later f_open f_laid f_places f_changed f_targets f_bytes f_first f_behind f_numbers f_sectors f_oldest f_newest f_keptNumbers f_keptSectors f_kept f_thrown f_head) sz) (fun u : (Nat → Int32) × (Nat → Int32) × (Nat → Int32) × Int32 => (wX57 ci ad d f_count f_runs f_full f_disk f_later (u.1) (u.2.1) (u.2.2.1) (u.2.2.2) f_targets f_bytes f_first f_behind f_numbers f_sectors f_oldest f_newest f_keptNumbers f_keptSectors f_kept f_thrown f_head))) (va_A (wX57 ci ad d f_count f_runs f_full f_disk f_later f_open f_laid f_places f_changed f_targets f_bytes f_first f_behind f_numbers f_sectors f_oldest f_newest f_keptNumbers f_keptSectors f_kept f_thrown f_head) sz)) 0 0 (va_A (wX57 ci ad d f_count f_runs f_full f_disk f_later f_open f_laid f_places f_changed f_targets f_bytes f_first f_behind f_numbers f_sectors f_oldest f_newest f_keptNumbers f_keptSectors f_kept f_thrown f_head) sz) := by
  refine k_enter (by decide) (Nat.le_of_ble_eq_true rfl) ?_
  intro p e s m below meth c ls X hsz hH hl
  subst hsz
  generalize va_A (wX57 ci ad d f_count f_runs f_full f_disk f_later f_open f_laid f_places f_changed f_targets f_bytes f_first f_behind f_numbers f_sectors f_oldest f_newest f_keptNumbers f_keptSectors f_kept f_thrown f_head) s.heap.size = A at hH ⊢
  have hx := X.1.1
  have hb := X.1.2.1
  have hl : lv_has ls 8 [(0, .ref (ad 0)), (1, .int x1), (2, .int x2), (3, .int x3), (4, .long x4)] := hl
  unfold wpX57_lay at hw
  refine lv_aload_n hx hb dX57_lay_0 rfl (lv_at hl 0 rfl) ?_
  refine k_i0 hH (k_runV (As := []) (rest := []) X hH.1 hH.2.1 X.2.2.2 (walkX57_freeSector hc (f_count := f_count) (f_runs := f_runs) (f_full := f_full) (f_disk := f_disk) (f_later := f_later) (f_open := f_open) (f_laid := f_laid) (f_places := f_places) (f_changed := f_changed) (f_targets := f_targets) (f_bytes := f_bytes) (f_first := f_first) (f_behind := f_behind) (f_numbers := f_numbers) (f_sectors := f_sectors) (f_oldest := f_oldest) (f_newest := f_newest) (f_keptNumbers := f_keptNumbers) (f_keptSectors := f_keptSectors) (f_kept := f_kept) (f_thrown := f_thrown) (f_head := f_head) hw) (cwV 0 X.1.2.2.2.2 gX57_113 rfl rfl rfl hX57_freeSector ⟨Nat.le_of_ble_eq_true rfl, Nat.le_of_ble_eq_true rfl⟩) hc (q0 := 0) rfl rfl hl.1 rfl (Nat.le_of_ble_eq_true rfl) dX57_lay_1 ⟨Nat.le_refl 0, Nat.le_refl 0⟩) (fun r_1 _ H locs hw hH => ?_)
  have hH : kH (dC, dI) cl A s.heap H locs (wX57 ci ad d f_count f_runs f_full f_disk f_later f_open f_laid f_places f_changed f_targets f_bytes f_first f_behind f_numbers f_sectors f_oldest f_newest f_keptNumbers f_keptSectors f_kept f_thrown f_head) := hH
  refine lv_istore (lv' := [(6, .int r_1), (0, .ref (ad 0)), (1, .int x1), (2, .int x2), (3, .int x3), (4, .long x4)]) hx hb dX57_lay_4 hl (by decide) rfl (fun ls hl => ?_)
  refine lv_iload_n hx hb dX57_lay_6 rfl (lv_at hl 3 rfl) ?_
  refine lv_iconst (v := (-1)) hx hb dX57_lay_7 (by decide) ?_
  refine lv_icmp_eq (tgt := 24) hx hb dX57_lay_8 (by decide) (fun c_2 => ?_) (fun c_2 => ?_)
  · have hw := hw.1 (z_eq (rfl : x2.toInt = _) (rfl : ((-1) : Int32).toInt = (-1)) c_2)
    refine lv_bipush (v := (-4)) hx hb dX57_lay_24 (by decide) ?_
    exact k_iret (v := (-4)) X hH (f_open, f_laid, f_places, f_changed) hw rfl rfl dX57_lay_26
  · have hw := hw.2 (z_neq (rfl : x2.toInt = _) (rfl : ((-1) : Int32).toInt = (-1)) c_2)
    refine lv_iload hx hb dX57_lay_11 (lv_at hl 0 rfl) ?_
    refine lv_iconst (v := (-1)) hx hb dX57_lay_13 (by decide) ?_
    refine lv_icmp_eq (tgt := 24) hx hb dX57_lay_14 (by decide) (fun c_3 => ?_) (fun c_3 => ?_)
    · have hw := hw.1 (z_eq (rfl : r_1.toInt = _) (rfl : ((-1) : Int32).toInt = (-1)) c_3)
      refine lv_bipush (v := (-4)) hx hb dX57_lay_24 (by decide) ?_
      exact k_iret (v := (-4)) X hH (f_open, f_laid, f_places, f_changed) hw rfl rfl dX57_lay_26
    · have hw := hw.2 (z_neq (rfl : r_1.toInt = _) (rfl : ((-1) : Int32).toInt = (-1)) c_3)
      refine lv_aload_n hx hb dX57_lay_17 rfl (lv_at hl 1 rfl) ?_
      refine k_get X hH in_X57 0 rfl hc 2 (by decide) q6792 rfl dX57_lay_18 ?_
      refine lv_if_eq (tgt := 27) hx hb dX57_lay_21 (by decide) (fun c_4 => ?_) (fun c_4 => ?_)
      · have hw := hw.1 (z_eq (rfl : f_full.toInt = _) (rfl : (0 : Int32).toInt = 0) c_4)
        refine lv_iconst (v := 0) hx hb dX57_lay_27 (by decide) ?_
        refine lv_istore (lv' := [(7, .int 0), (6, .int r_1), (0, .ref (ad 0)), (1, .int x1), (2, .int x2), (3, .int x3), (4, .long x4)]) hx hb dX57_lay_28 hl (by decide) rfl (fun ls hl => ?_)
        obtain ⟨fu, hw⟩ := hw
        refine atX57_lay_30 hc X ?_ fu 0 f_open hw _ _ ls hH (lv_sub hl [2, 3, 4, 5, 6, 1, 0] rfl)
        · intro f_open_13 hw H locs ls hH hl
          refine lv_aload_n hx hb dX57_lay_57 rfl (lv_at hl 0 rfl) ?_
          refine k_get X hH in_X57 0 rfl hc 5 (by decide) q6795 rfl dX57_lay_58 ?_
          refine lv_bipush (v := 32) hx hb dX57_lay_61 (by decide) ?_
          refine lv_iload hx hb dX57_lay_63 (lv_at hl 5 rfl) ?_
          refine lv_imul hx hb dX57_lay_65 ?_
          have e_14 := z_mul (z_m (rfl : (32 : Int32).toInt = 32)) (z_m (rfl : r_1.toInt = _))
          refine lv_iconst (v := 4) hx hb dX57_lay_66 (by decide) ?_
          refine lv_iadd hx hb dX57_lay_67 ?_
          have e_15 := z_add e_14 (z_m (rfl : (4 : Int32).toInt = 4))
          refine lv_iload_n hx hb dX57_lay_68 rfl (lv_at hl 1 rfl) ?_
          have hq_17 := hw.1
          have hw := hw.2
          have e_18 := z_xi e_15 hq_17 (by decide)
          obtain ⟨f_open_16, ef_open_16⟩ : ∃ y : Nat → Int32, y = upd f_open_13 ((32 * r_1) + 4).toNatClampNeg x1 := ⟨_, rfl⟩
          refine k_iast X hH 3 2 rfl rfl (z_in e_18 hq_17) dX57_lay_69 ef_open_16 (ws1 := (wX57 ci ad d f_count f_runs f_full f_disk f_later f_open_16 f_laid f_places f_changed f_targets f_bytes f_first f_behind f_numbers f_sectors f_oldest f_newest f_keptNumbers f_keptSectors f_kept f_thrown f_head)) rfl (fun H locs hH => ?_)
          have hw := hw (zF f_open_16) (by rw [ef_open_16]; exact z_st (f := f_open_13) e_18 hq_17.1 (rfl : x1.toInt = _))
          refine lv_aload_n hx hb dX57_lay_70 rfl (lv_at hl 0 rfl) ?_
          refine k_get X hH in_X57 0 rfl hc 5 (by decide) q6795 rfl dX57_lay_71 ?_
          refine lv_bipush (v := 32) hx hb dX57_lay_74 (by decide) ?_
          refine lv_iload hx hb dX57_lay_76 (lv_at hl 5 rfl) ?_
          refine lv_imul hx hb dX57_lay_78 ?_
          have e_19 := z_mul (z_m (rfl : (32 : Int32).toInt = 32)) (z_m (rfl : r_1.toInt = _))
          refine lv_iconst (v := 5) hx hb dX57_lay_79 (by decide) ?_
          refine lv_iadd hx hb dX57_lay_80 ?_
          have e_20 := z_add e_19 (z_m (rfl : (5 : Int32).toInt = 5))
          refine lv_iload_n hx hb dX57_lay_81 rfl (lv_at hl 2 rfl) ?_
          have hq_22 := hw.1
          have hw := hw.2
          have e_23 := z_xi e_20 hq_22 (by decide)
          obtain ⟨f_open_21, ef_open_21⟩ : ∃ y : Nat → Int32, y = upd f_open_16 ((32 * r_1) + 5).toNatClampNeg x2 := ⟨_, rfl⟩
          refine k_iast X hH 3 2 rfl rfl (z_in e_23 hq_22) dX57_lay_82 ef_open_21 (ws1 := (wX57 ci ad d f_count f_runs f_full f_disk f_later f_open_21 f_laid f_places f_changed f_targets f_bytes f_first f_behind f_numbers f_sectors f_oldest f_newest f_keptNumbers f_keptSectors f_kept f_thrown f_head)) rfl (fun H locs hH => ?_)
          have hw := hw (zF f_open_21) (by rw [ef_open_21]; exact z_st (f := f_open_16) e_23 hq_22.1 (rfl : x2.toInt = _))
          refine lv_aload_n hx hb dX57_lay_83 rfl (lv_at hl 0 rfl) ?_
          refine k_get X hH in_X57 0 rfl hc 5 (by decide) q6795 rfl dX57_lay_84 ?_
          refine lv_bipush (v := 32) hx hb dX57_lay_87 (by decide) ?_
          refine lv_iload hx hb dX57_lay_89 (lv_at hl 5 rfl) ?_
          refine lv_imul hx hb dX57_lay_91 ?_
          have e_24 := z_mul (z_m (rfl : (32 : Int32).toInt = 32)) (z_m (rfl : r_1.toInt = _))
          refine lv_bipush (v := 6) hx hb dX57_lay_92 (by decide) ?_
          refine lv_iadd hx hb dX57_lay_94 ?_
          have e_25 := z_add e_24 (z_m (rfl : (6 : Int32).toInt = 6))
          refine lv_iload_n hx hb dX57_lay_95 rfl (lv_at hl 3 rfl) ?_
          have hq_27 := hw.1
          have hw := hw.2
          have e_28 := z_xi e_25 hq_27 (by decide)
          obtain ⟨f_open_26, ef_open_26⟩ : ∃ y : Nat → Int32, y = upd f_open_21 ((32 * r_1) + 6).toNatClampNeg x3 := ⟨_, rfl⟩
          refine k_iast X hH 3 2 rfl rfl (z_in e_28 hq_27) dX57_lay_96 ef_open_26 (ws1 := (wX57 ci ad d f_count f_runs f_full f_disk f_later f_open_26 f_laid f_places f_changed f_targets f_bytes f_first f_behind f_numbers f_sectors f_oldest f_newest f_keptNumbers f_keptSectors f_kept f_thrown f_head)) rfl (fun H locs hH => ?_)
          have hw := hw (zF f_open_26) (by rw [ef_open_26]; exact z_st (f := f_open_21) e_28 hq_27.1 (rfl : x3.toInt = _))
          refine lv_aload_n hx hb dX57_lay_97 rfl (lv_at hl 0 rfl) ?_
          refine k_get X hH in_X57 0 rfl hc 5 (by decide) q6795 rfl dX57_lay_98 ?_
          refine lv_bipush (v := 32) hx hb dX57_lay_101 (by decide) ?_
          refine lv_iload hx hb dX57_lay_103 (lv_at hl 5 rfl) ?_
          refine lv_imul hx hb dX57_lay_105 ?_
          have e_29 := z_mul (z_m (rfl : (32 : Int32).toInt = 32)) (z_m (rfl : r_1.toInt = _))
          refine lv_bipush (v := 8) hx hb dX57_lay_106 (by decide) ?_
          refine lv_iadd hx hb dX57_lay_108 ?_
          have e_30 := z_add e_29 (z_m (rfl : (8 : Int32).toInt = 8))
          refine lv_lload hx hb dX57_lay_109 (lv_at hl 4 rfl) ?_
          have hq_31 := hw.1
          have hw := hw.2
          have e_32 := z_x e_30 hq_31
          refine k_v0 hH (k_runS (As := [.ref (ad 3), .int ((32 * r_1) + 8), .long x4]) (rest := []) X hH.1 hH.2.1 X.2.2.2 (walkX57_setWide_open hc (x1 := ((32 * r_1) + 8)) (x2 := x4) (f_count := f_count) (f_runs := f_runs) (f_full := f_full) (f_disk := f_disk) (f_later := f_later) (f_open := f_open_26) (f_laid := f_laid) (f_places := f_places) (f_changed := f_changed) (f_targets := f_targets) (f_bytes := f_bytes) (f_first := f_first) (f_behind := f_behind) (f_numbers := f_numbers) (f_sectors := f_sectors) (f_oldest := f_oldest) (f_newest := f_newest) (f_keptNumbers := f_keptNumbers) (f_keptSectors := f_keptSectors) (f_kept := f_kept) (f_thrown := f_thrown) (f_head := f_head) (by rw [show ((32 * r_1) + 8 : Int32).toInt = _ from e_32]; exact hw)) (va_cwS 3 X.1.2.2.2.2 gX57_120 rfl rfl rfl hX57_setWide ⟨Nat.le_of_ble_eq_true rfl, Nat.le_of_ble_eq_true rfl⟩) rfl hl.1 rfl (Nat.le_of_ble_eq_true rfl) dX57_lay_111 ⟨Nat.le_refl 0, Nat.le_refl 0⟩) (fun u H locs hw hH => ?_)
          obtain ⟨f_open_33, eu⟩ : ∃ z, z = u := ⟨_, rfl⟩
          subst eu
          have hH : kH (dC, dI) cl A s.heap H locs (wX57 ci ad d f_count f_runs f_full f_disk f_later f_open_33 f_laid f_places f_changed f_targets f_bytes f_first f_behind f_numbers f_sectors f_oldest f_newest f_keptNumbers f_keptSectors f_kept f_thrown f_head) := hH
          refine lv_aload_n hx hb dX57_lay_114 rfl (lv_at hl 0 rfl) ?_
          refine k_get X hH in_X57 0 rfl hc 5 (by decide) q6795 rfl dX57_lay_115 ?_
          refine lv_iload hx hb dX57_lay_118 (lv_at hl 5 rfl) ?_
          refine k_v0 hH (k_runS (As := [.ref (ad 3), .int r_1]) (rest := []) X hH.1 hH.2.1 X.2.2.2 (walkX57_close_open hc (x1 := r_1) (f_count := f_count) (f_runs := f_runs) (f_full := f_full) (f_disk := f_disk) (f_later := f_later) (f_open := f_open_33) (f_laid := f_laid) (f_places := f_places) (f_changed := f_changed) (f_targets := f_targets) (f_bytes := f_bytes) (f_first := f_first) (f_behind := f_behind) (f_numbers := f_numbers) (f_sectors := f_sectors) (f_oldest := f_oldest) (f_newest := f_newest) (f_keptNumbers := f_keptNumbers) (f_keptSectors := f_keptSectors) (f_kept := f_kept) (f_thrown := f_thrown) (f_head := f_head) hw) (va_cwS 2 X.1.2.2.2.2 gX57_124 rfl rfl rfl hX57_close ⟨Nat.le_of_ble_eq_true rfl, Nat.le_of_ble_eq_true rfl⟩) rfl hl.1 rfl (Nat.le_of_ble_eq_true rfl) dX57_lay_120 ⟨Nat.le_refl 0, Nat.le_refl 0⟩) (fun u H locs hw hH => ?_)
          obtain ⟨f_open_34, eu⟩ : ∃ z, z = u := ⟨_, rfl⟩
          subst eu
          have hH : kH (dC, dI) cl A s.heap H locs (wX57 ci ad d f_count f_runs f_full f_disk f_later f_open_34 f_laid f_places f_changed f_targets f_bytes f_first f_behind f_numbers f_sectors f_oldest f_newest f_keptNumbers f_keptSectors f_kept f_thrown f_head) := hH
          refine lv_aload_n hx hb dX57_lay_123 rfl (lv_at hl 0 rfl) ?_
          refine k_get X hH in_X57 0 rfl hc 7 (by decide) q6797 rfl dX57_lay_124 ?_
          refine lv_iload_n hx hb dX57_lay_127 rfl (lv_at hl 2 rfl) ?_
          have hq_35 := hw.1
          have hw := hw.2
          refine k_iald X hH 5 4 rfl rfl (z_in (rfl : x2.toInt = _) hq_35) dX57_lay_128 ?_
          have e_36 := z_ld (f := f_places) (rfl : x2.toInt = _) hq_35.1
          refine lv_iconst (v := (-1)) hx hb dX57_lay_129 (by decide) ?_
          refine lv_icmp_eq (tgt := 145) hx hb dX57_lay_130 (by decide) (fun c_37 => ?_) (fun c_37 => ?_)
          · have hw := hw.1 (z_eq e_36 (rfl : ((-1) : Int32).toInt = (-1)) c_37)
            exact atX57_lay_145 hc X x2 r_1 f_open_34 f_laid f_places f_changed hw _ _ ls hH (lv_sub hl [0, 2, 5] rfl)
          · have hw := hw.2 (z_neq e_36 (rfl : ((-1) : Int32).toInt = (-1)) c_37)
            refine lv_aload_n hx hb dX57_lay_133 rfl (lv_at hl 0 rfl) ?_
            refine k_get X hH in_X57 0 rfl hc 6 (by decide) q6796 rfl dX57_lay_134 ?_
            refine lv_aload_n hx hb dX57_lay_137 rfl (lv_at hl 0 rfl) ?_
            refine k_get X hH in_X57 0 rfl hc 7 (by decide) q6797 rfl dX57_lay_138 ?_
            refine lv_iload_n hx hb dX57_lay_141 rfl (lv_at hl 2 rfl) ?_
            refine k_iald X hH 5 4 rfl rfl (z_in (rfl : x2.toInt = _) hq_35) dX57_lay_142 ?_
            have e_42 := z_ld (f := f_places) (rfl : x2.toInt = _) hq_35.1
            refine lv_iconst (v := 0) hx hb dX57_lay_143 (by decide) ?_
            have hq_44 := hw.1
            have hw := hw.2
            obtain ⟨f_laid_43, ef_laid_43⟩ : ∃ y : Nat → Int32, y = upd f_laid (f_places x2.toNatClampNeg).toNatClampNeg (vp_nar .boolean 0) := ⟨_, rfl⟩
            refine k_zast X hH 4 3 rfl rfl (z_in e_42 hq_44) dX57_lay_144 ef_laid_43 (ws1 := (wX57 ci ad d f_count f_runs f_full f_disk f_later f_open_34 f_laid_43 f_places f_changed f_targets f_bytes f_first f_behind f_numbers f_sectors f_oldest f_newest f_keptNumbers f_keptSectors f_kept f_thrown f_head)) rfl (fun H locs hH => ?_)
            have hw := hw (zF f_laid_43) (by rw [ef_laid_43]; exact z_st (f := f_laid) e_42 hq_44.1 (z_narZ (rfl : (0 : Int32).toInt = 0) (by decide)))
            exact atX57_lay_145 hc X x2 r_1 f_open_34 f_laid_43 f_places f_changed hw _ _ ls hH (lv_sub hl [0, 2, 5] rfl)
      · have hw := hw.2 (z_neq (rfl : f_full.toInt = _) (rfl : (0 : Int32).toInt = 0) c_4)
        refine lv_bipush (v := (-4)) hx hb dX57_lay_24 (by decide) ?_
        exact k_iret (v := (-4)) X hH (f_open, f_laid, f_places, f_changed) hw rfl rfl dX57_lay_26
set_option maxHeartbeats 4000000 in
theorem atX57_page_59 {p : Program} {l : Launch} {e : Env} {s : State} {m : MethodId} {args : Array Value} {below : List Frame} {meth : Method} {c : Code} {dC : Nat → ClassId} {dI : Nat → Nat → Nat} {cl : List vw_C} {ci : Nat} (hc : cl[ci]? = some (RX57, TX57, 22)) {ad : Nat → Nat} {d : Nat → ClassId} {A : Nat → Prop} {post : Int → (Int → Int) → (Int → Int) → (Int → Int) → Int → Prop} {f_count : Int32} {f_runs : Int32} {f_full : Int32} {f_disk : Nat → Int32} {f_later : Nat → Int32} {f_targets : Nat → Int32} {f_bytes : Nat → Int32} {f_first : Int32} {f_behind : Int32} {f_numbers : Nat → Int32} {f_sectors : Nat → Int64} {f_oldest : Int32} {f_newest : Int32} {f_keptNumbers : Nat → Int32} {f_keptSectors : Nat → Int64} {f_kept : Int32} {f_thrown : Int32} {f_head : Nat → Int32} (X : kX p s m args meth c cX57_page 6 RX57 (some .int) (dC, dI) cl (tX57 d))     :
    ∀ (x1 : Int32) (x2 : Int32) (x3 : Int64) (x5 : Int32) (f_open : Nat → Int32) (f_laid : Nat → Int32) (f_places : Nat → Int32) (f_changed : Int32), wX57_page_59 post x1.toInt x2.toInt x3.toInt x5.toInt f_count.toInt f_full.toInt (zF f_later) (zF f_open) (zF f_laid) (zF f_places) f_changed.toInt (zF f_targets) f_first.toInt f_behind.toInt (zG f_sectors) f_oldest.toInt f_newest.toInt (zG f_keptSectors) f_kept.toInt → ∀ (H : Heap) (locs : List Loc) (ls : Array Slot), kH (dC, dI) cl A s.heap H locs (wX57 ci ad d f_count f_runs f_full f_disk f_later f_open f_laid f_places f_changed f_targets f_bytes f_first f_behind f_numbers f_sectors f_oldest f_newest f_keptNumbers f_keptSectors f_kept f_thrown f_head) → lv_has ls 6 [(0, .ref (ad 0)), (1, .int x1), (2, .int x2), (3, .long x3), (5, .int x5)] → W p l e ({ frames := 4, cells := 0, slots := 0, locals := 94 } : Room) s m args below meth c H locs 0 0 (MQ below (va_Qi (fun (r : Int32) (u : (Nat → Int32) × (Nat → Int32) × (Nat → Int32) × Int32) => post r.toInt (zF (u.1)) (zF (u.2.1)) (zF (u.2.2.1)) (u.2.2.2).toInt) (kB (dC, dI) cl (tX57 d) A (fun u : (Nat → Int32) × (Nat → Int32) × (Nat → Int32) × Int32 => (wX57 ci ad d f_count f_runs f_full f_disk f_later (u.1) (u.2.1) (u.2.2.1) (u.2.2.2) f_targets f_bytes f_first f_behind f_numbers f_sectors f_oldest f_newest f_keptNumbers f_keptSectors f_kept f_thrown f_head))) A) args s 0 0 A) (F0 m 59 ls []) := by
  have hx := X.1.1
  have hb := X.1.2.1
  intro x1 x2 x3 x5 f_open f_laid f_places f_changed hw H locs ls hH hl
  unfold wX57_page_59 at hw
  refine lv_iload_n hx hb dX57_page_59 rfl (lv_at hl 1 rfl) ?_
  refine lv_iconst (v := 3) hx hb dX57_page_60 (by decide) ?_
  refine lv_icmp_ne (tgt := 106) hx hb dX57_page_61 (by decide) (fun c_6 => ?_) (fun c_6 => ?_)
  · have hw := hw.2 (z_ne (rfl : x1.toInt = _) (rfl : (3 : Int32).toInt = 3) c_6)
    refine lv_iload_n hx hb dX57_page_106 rfl (lv_at hl 1 rfl) ?_
    refine lv_if_le (tgt := 133) hx hb dX57_page_107 (by decide) (fun c_7 => ?_) (fun c_7 => ?_)
    · have hw := hw.1 (z_le (rfl : x1.toInt = _) (rfl : (0 : Int32).toInt = 0) c_7)
      refine lv_aload_n hx hb dX57_page_133 rfl (lv_at hl 0 rfl) ?_
      refine k_get X hH in_X57 0 rfl hc 6 (by decide) q6796 rfl dX57_page_134 ?_
      refine lv_aload_n hx hb dX57_page_137 rfl (lv_at hl 0 rfl) ?_
      refine k_get X hH in_X57 0 rfl hc 7 (by decide) q6797 rfl dX57_page_138 ?_
      refine lv_iload_n hx hb dX57_page_141 rfl (lv_at hl 2 rfl) ?_
      have hq_8 := hw.1
      have hw := hw.2
      refine k_iald X hH 5 4 rfl rfl (z_in (rfl : x2.toInt = _) hq_8) dX57_page_142 ?_
      have e_9 := z_ld (f := f_places) (rfl : x2.toInt = _) hq_8.1
      refine lv_iconst (v := 0) hx hb dX57_page_143 (by decide) ?_
      have hq_11 := hw.1
      have hw := hw.2
      obtain ⟨f_laid_10, ef_laid_10⟩ : ∃ y : Nat → Int32, y = upd f_laid (f_places x2.toNatClampNeg).toNatClampNeg (vp_nar .boolean 0) := ⟨_, rfl⟩
      refine k_zast X hH 4 3 rfl rfl (z_in e_9 hq_11) dX57_page_144 ef_laid_10 (ws1 := (wX57 ci ad d f_count f_runs f_full f_disk f_later f_open f_laid_10 f_places f_changed f_targets f_bytes f_first f_behind f_numbers f_sectors f_oldest f_newest f_keptNumbers f_keptSectors f_kept f_thrown f_head)) rfl (fun H locs hH => ?_)
      have hw := hw (zF f_laid_10) (by rw [ef_laid_10]; exact z_st (f := f_laid) e_9 hq_11.1 (z_narZ (rfl : (0 : Int32).toInt = 0) (by decide)))
      refine lv_aload_n hx hb dX57_page_145 rfl (lv_at hl 0 rfl) ?_
      refine k_get X hH in_X57 0 rfl hc 7 (by decide) q6797 rfl dX57_page_146 ?_
      refine lv_iload_n hx hb dX57_page_149 rfl (lv_at hl 2 rfl) ?_
      refine lv_iconst (v := (-1)) hx hb dX57_page_150 (by decide) ?_
      obtain ⟨f_places_12, ef_places_12⟩ : ∃ y : Nat → Int32, y = upd f_places x2.toNatClampNeg (-1) := ⟨_, rfl⟩
      refine k_iast X hH 5 4 rfl rfl (z_in (rfl : x2.toInt = _) hq_8) dX57_page_151 ef_places_12 (ws1 := (wX57 ci ad d f_count f_runs f_full f_disk f_later f_open f_laid_10 f_places_12 f_changed f_targets f_bytes f_first f_behind f_numbers f_sectors f_oldest f_newest f_keptNumbers f_keptSectors f_kept f_thrown f_head)) rfl (fun H locs hH => ?_)
      have hw := hw (zF f_places_12) (by rw [ef_places_12]; exact z_st (f := f_places) (rfl : x2.toInt = _) hq_8.1 (rfl : ((-1) : Int32).toInt = (-1)))
      refine lv_aload_n hx hb dX57_page_152 rfl (lv_at hl 0 rfl) ?_
      refine lv_iconst (v := 1) hx hb dX57_page_153 (by decide) ?_
      refine k_put X hH in_X57 tyX57_ok nmX57 0 rfl hc 8 (by decide) q6798 rfl (ty := .boolean) rfl rfl rfl (Nat.le_of_ble_eq_true rfl) dX57_page_154 (ws1 := (wX57 ci ad d f_count f_runs f_full f_disk f_later f_open f_laid_10 f_places_12 1 f_targets f_bytes f_first f_behind f_numbers f_sectors f_oldest f_newest f_keptNumbers f_keptSectors f_kept f_thrown f_head)) rfl (fun H locs hH => ?_)
      refine lv_iload_n hx hb dX57_page_157 rfl (lv_at hl 2 rfl) ?_
      exact k_iret (v := x2) X hH (f_open, f_laid_10, f_places_12, 1) hw rfl rfl dX57_page_158
    · have hw := hw.2 (z_nle (rfl : x1.toInt = _) (rfl : (0 : Int32).toInt = 0) c_7)
      refine lv_aload_n hx hb dX57_page_110 rfl (lv_at hl 0 rfl) ?_
      refine lv_iload_n hx hb dX57_page_111 rfl (lv_at hl 1 rfl) ?_
      refine lv_iload hx hb dX57_page_112 (lv_at hl 4 rfl) ?_
      refine lv_if_eq (tgt := 124) hx hb dX57_page_114 (by decide) (fun c_13 => ?_) (fun c_13 => ?_)
      · have hw := hw.1 (z_eq (rfl : x5.toInt = _) (rfl : (0 : Int32).toInt = 0) c_13)
        refine lv_iload_n hx hb dX57_page_124 rfl (lv_at hl 2 rfl) ?_
        refine lv_sipush (v := 255) hx hb dX57_page_125 (by decide) ?_
        refine lv_lload_n hx hb dX57_page_128 rfl (lv_at hl 3 rfl) ?_
        refine k_i0 hH (k_runV (As := [.int x1, .int x2, .int 255, .long x3]) (rest := []) X hH.1 hH.2.1 X.2.2.2 (walkX57_lay hc (x1 := x1) (x2 := x2) (x3 := 255) (x4 := x3) (f_count := f_count) (f_runs := f_runs) (f_full := f_full) (f_disk := f_disk) (f_later := f_later) (f_open := f_open) (f_laid := f_laid) (f_places := f_places) (f_changed := f_changed) (f_targets := f_targets) (f_bytes := f_bytes) (f_first := f_first) (f_behind := f_behind) (f_numbers := f_numbers) (f_sectors := f_sectors) (f_oldest := f_oldest) (f_newest := f_newest) (f_keptNumbers := f_keptNumbers) (f_keptSectors := f_keptSectors) (f_kept := f_kept) (f_thrown := f_thrown) (f_head := f_head) hw) (cwV 4 X.1.2.2.2.2 gX57_146 rfl rfl rfl hX57_lay ⟨Nat.le_of_ble_eq_true rfl, Nat.le_of_ble_eq_true rfl⟩) hc (q0 := 0) rfl rfl hl.1 rfl (Nat.le_of_ble_eq_true rfl) dX57_page_129 ⟨Nat.le_refl 0, Nat.le_refl 0⟩) (fun r_14 u H locs hw hH => ?_)
        obtain ⟨f_open_15, f_laid_16, f_places_17, f_changed_18⟩ := u
        have hH : kH (dC, dI) cl A s.heap H locs (wX57 ci ad d f_count f_runs f_full f_disk f_later f_open_15 f_laid_16 f_places_17 f_changed_18 f_targets f_bytes f_first f_behind f_numbers f_sectors f_oldest f_newest f_keptNumbers f_keptSectors f_kept f_thrown f_head) := hH
        exact k_iret (v := r_14) X hH (f_open_15, f_laid_16, f_places_17, f_changed_18) hw rfl rfl dX57_page_132
      · have hw := hw.2 (z_neq (rfl : x5.toInt = _) (rfl : (0 : Int32).toInt = 0) c_13)
        refine lv_aload_n hx hb dX57_page_117 rfl (lv_at hl 0 rfl) ?_
        refine k_i0 hH (k_runV (As := []) (rest := [.int x1, .ref (ad 0)]) X hH.1 hH.2.1 X.2.2.2 (walkX57_freePage hc (f_count := f_count) (f_runs := f_runs) (f_full := f_full) (f_disk := f_disk) (f_later := f_later) (f_open := f_open) (f_laid := f_laid) (f_places := f_places) (f_changed := f_changed) (f_targets := f_targets) (f_bytes := f_bytes) (f_first := f_first) (f_behind := f_behind) (f_numbers := f_numbers) (f_sectors := f_sectors) (f_oldest := f_oldest) (f_newest := f_newest) (f_keptNumbers := f_keptNumbers) (f_keptSectors := f_keptSectors) (f_kept := f_kept) (f_thrown := f_thrown) (f_head := f_head) hw) (cwV 0 X.1.2.2.2.2 gX57_135 rfl rfl rfl hX57_freePage ⟨Nat.le_of_ble_eq_true rfl, Nat.le_of_ble_eq_true rfl⟩) hc (q0 := 0) rfl rfl hl.1 rfl (Nat.le_of_ble_eq_true rfl) dX57_page_118 ⟨Nat.le_refl 0, Nat.le_refl 0⟩) (fun r_19 _ H locs hw hH => ?_)
        have hH : kH (dC, dI) cl A s.heap H locs (wX57 ci ad d f_count f_runs f_full f_disk f_later f_open f_laid f_places f_changed f_targets f_bytes f_first f_behind f_numbers f_sectors f_oldest f_newest f_keptNumbers f_keptSectors f_kept f_thrown f_head) := hH
        refine lv_goto (tgt := 125) hx hb dX57_page_121 (by decide) ?_
        refine lv_sipush (v := 255) hx hb dX57_page_125 (by decide) ?_
        refine lv_lload_n hx hb dX57_page_128 rfl (lv_at hl 3 rfl) ?_
        refine k_i0 hH (k_runV (As := [.int x1, .int r_19, .int 255, .long x3]) (rest := []) X hH.1 hH.2.1 X.2.2.2 (walkX57_lay hc (x1 := x1) (x2 := r_19) (x3 := 255) (x4 := x3) (f_count := f_count) (f_runs := f_runs) (f_full := f_full) (f_disk := f_disk) (f_later := f_later) (f_open := f_open) (f_laid := f_laid) (f_places := f_places) (f_changed := f_changed) (f_targets := f_targets) (f_bytes := f_bytes) (f_first := f_first) (f_behind := f_behind) (f_numbers := f_numbers) (f_sectors := f_sectors) (f_oldest := f_oldest) (f_newest := f_newest) (f_keptNumbers := f_keptNumbers) (f_keptSectors := f_keptSectors) (f_kept := f_kept) (f_thrown := f_thrown) (f_head := f_head) hw) (cwV 4 X.1.2.2.2.2 gX57_146 rfl rfl rfl hX57_lay ⟨Nat.le_of_ble_eq_true rfl, Nat.le_of_ble_eq_true rfl⟩) hc (q0 := 0) rfl rfl hl.1 rfl (Nat.le_of_ble_eq_true rfl) dX57_page_129 ⟨Nat.le_refl 0, Nat.le_refl 0⟩) (fun r_20 u H locs hw hH => ?_)
        obtain ⟨f_open_21, f_laid_22, f_places_23, f_changed_24⟩ := u
        have hH : kH (dC, dI) cl A s.heap H locs (wX57 ci ad d f_count f_runs f_full f_disk f_later f_open_21 f_laid_22 f_places_23 f_changed_24 f_targets f_bytes f_first f_behind f_numbers f_sectors f_oldest f_newest f_keptNumbers f_keptSectors f_kept f_thrown f_head) := hH
        exact k_iret (v := r_20) X hH (f_open_21, f_laid_22, f_places_23, f_changed_24) hw rfl rfl dX57_page_132
  · have hw := hw.1 (z_eq (rfl : x1.toInt = _) (rfl : (3 : Int32).toInt = 3) c_6)
    refine lv_aload_n hx hb dX57_page_64 rfl (lv_at hl 0 rfl) ?_
    refine lv_aload_n hx hb dX57_page_65 rfl (lv_at hl 0 rfl) ?_
    refine k_get X hH in_X57 0 rfl hc 7 (by decide) q6797 rfl dX57_page_66 ?_
    refine lv_iload_n hx hb dX57_page_69 rfl (lv_at hl 2 rfl) ?_
    have hq_25 := hw.1
    have hw := hw.2
    refine k_iald X hH 5 4 rfl rfl (z_in (rfl : x2.toInt = _) hq_25) dX57_page_70 ?_
    have e_26 := z_ld (f := f_places) (rfl : x2.toInt = _) hq_25.1
    refine k_i0 hH (k_runV (As := [.int (f_places x2.toNatClampNeg)]) (rest := []) X hH.1 hH.2.1 X.2.2.2 (walkX57_kindOf hc (x1 := (f_places x2.toNatClampNeg)) (f_count := f_count) (f_runs := f_runs) (f_full := f_full) (f_disk := f_disk) (f_later := f_later) (f_open := f_open) (f_laid := f_laid) (f_places := f_places) (f_changed := f_changed) (f_targets := f_targets) (f_bytes := f_bytes) (f_first := f_first) (f_behind := f_behind) (f_numbers := f_numbers) (f_sectors := f_sectors) (f_oldest := f_oldest) (f_newest := f_newest) (f_keptNumbers := f_keptNumbers) (f_keptSectors := f_keptSectors) (f_kept := f_kept) (f_thrown := f_thrown) (f_head := f_head) (by rw [show (f_places x2.toNatClampNeg : Int32).toInt = _ from e_26]; exact hw)) (cwV 1 X.1.2.2.2.2 gX57_131 rfl rfl rfl hX57_kindOf ⟨Nat.le_of_ble_eq_true rfl, Nat.le_of_ble_eq_true rfl⟩) hc (q0 := 0) rfl rfl hl.1 rfl (Nat.le_of_ble_eq_true rfl) dX57_page_71 ⟨Nat.le_refl 0, Nat.le_refl 0⟩) (fun r_27 _ H locs hw hH => ?_)
    have hH : kH (dC, dI) cl A s.heap H locs (wX57 ci ad d f_count f_runs f_full f_disk f_later f_open f_laid f_places f_changed f_targets f_bytes f_first f_behind f_numbers f_sectors f_oldest f_newest f_keptNumbers f_keptSectors f_kept f_thrown f_head) := hH
    refine lv_iconst (v := 3) hx hb dX57_page_74 (by decide) ?_
    refine lv_icmp_ne (tgt := 82) hx hb dX57_page_75 (by decide) (fun c_28 => ?_) (fun c_28 => ?_)
    · have hw := hw.2 (z_ne (rfl : r_27.toInt = _) (rfl : (3 : Int32).toInt = 3) c_28)
      refine lv_aload_n hx hb dX57_page_82 rfl (lv_at hl 0 rfl) ?_
      refine lv_iconst (v := 3) hx hb dX57_page_83 (by decide) ?_
      refine lv_aload_n hx hb dX57_page_84 rfl (lv_at hl 0 rfl) ?_
      refine k_i0 hH (k_runV (As := []) (rest := [.int 3, .ref (ad 0)]) X hH.1 hH.2.1 X.2.2.2 (walkX57_freePage hc (f_count := f_count) (f_runs := f_runs) (f_full := f_full) (f_disk := f_disk) (f_later := f_later) (f_open := f_open) (f_laid := f_laid) (f_places := f_places) (f_changed := f_changed) (f_targets := f_targets) (f_bytes := f_bytes) (f_first := f_first) (f_behind := f_behind) (f_numbers := f_numbers) (f_sectors := f_sectors) (f_oldest := f_oldest) (f_newest := f_newest) (f_keptNumbers := f_keptNumbers) (f_keptSectors := f_keptSectors) (f_kept := f_kept) (f_thrown := f_thrown) (f_head := f_head) hw) (cwV 0 X.1.2.2.2.2 gX57_135 rfl rfl rfl hX57_freePage ⟨Nat.le_of_ble_eq_true rfl, Nat.le_of_ble_eq_true rfl⟩) hc (q0 := 0) rfl rfl hl.1 rfl (Nat.le_of_ble_eq_true rfl) dX57_page_85 ⟨Nat.le_refl 0, Nat.le_refl 0⟩) (fun r_29 _ H locs hw hH => ?_)
      have hH : kH (dC, dI) cl A s.heap H locs (wX57 ci ad d f_count f_runs f_full f_disk f_later f_open f_laid f_places f_changed f_targets f_bytes f_first f_behind f_numbers f_sectors f_oldest f_newest f_keptNumbers f_keptSectors f_kept f_thrown f_head) := hH
      refine lv_iload_n hx hb dX57_page_88 rfl (lv_at hl 2 rfl) ?_
      refine lv_aload_n hx hb dX57_page_89 rfl (lv_at hl 0 rfl) ?_
      refine lv_aload_n hx hb dX57_page_90 rfl (lv_at hl 0 rfl) ?_
      refine k_get X hH in_X57 0 rfl hc 7 (by decide) q6797 rfl dX57_page_91 ?_
      refine lv_iload_n hx hb dX57_page_94 rfl (lv_at hl 2 rfl) ?_
      refine k_iald X hH 5 4 rfl rfl (z_in (rfl : x2.toInt = _) hq_25) dX57_page_95 ?_
      have e_30 := z_ld (f := f_places) (rfl : x2.toInt = _) hq_25.1
      refine k_l0 hH (k_runV (As := [.int (f_places x2.toNatClampNeg)]) (rest := [.int x2, .int r_29, .int 3, .ref (ad 0)]) X hH.1 hH.2.1 X.2.2.2 (walkX57_valueOf hc (x1 := (f_places x2.toNatClampNeg)) (f_count := f_count) (f_runs := f_runs) (f_full := f_full) (f_disk := f_disk) (f_later := f_later) (f_open := f_open) (f_laid := f_laid) (f_places := f_places) (f_changed := f_changed) (f_targets := f_targets) (f_bytes := f_bytes) (f_first := f_first) (f_behind := f_behind) (f_numbers := f_numbers) (f_sectors := f_sectors) (f_oldest := f_oldest) (f_newest := f_newest) (f_keptNumbers := f_keptNumbers) (f_keptSectors := f_keptSectors) (f_kept := f_kept) (f_thrown := f_thrown) (f_head := f_head) (by rw [show (f_places x2.toNatClampNeg : Int32).toInt = _ from e_30]; exact hw)) (cwV 1 X.1.2.2.2.2 gX57_138 rfl rfl rfl hX57_valueOf ⟨Nat.le_of_ble_eq_true rfl, Nat.le_of_ble_eq_true rfl⟩) hc (q0 := 0) rfl rfl hl.1 rfl (Nat.le_of_ble_eq_true rfl) dX57_page_96 ⟨Nat.le_refl 0, Nat.le_refl 0⟩) (fun r_31 _ H locs hw hH => ?_)
      have hH : kH (dC, dI) cl A s.heap H locs (wX57 ci ad d f_count f_runs f_full f_disk f_later f_open f_laid f_places f_changed f_targets f_bytes f_first f_behind f_numbers f_sectors f_oldest f_newest f_keptNumbers f_keptSectors f_kept f_thrown f_head) := hH
      refine k_l0 hH (k_runS (As := [.long r_31]) (rest := [.int x2, .int r_29, .int 3, .ref (ad 0)]) X hH.1 hH.2.1 X.2.2.2 (walkX57_turned hc (x0 := r_31) (f_count := f_count) (f_runs := f_runs) (f_full := f_full) (f_disk := f_disk) (f_later := f_later) (f_open := f_open) (f_laid := f_laid) (f_places := f_places) (f_changed := f_changed) (f_targets := f_targets) (f_bytes := f_bytes) (f_first := f_first) (f_behind := f_behind) (f_numbers := f_numbers) (f_sectors := f_sectors) (f_oldest := f_oldest) (f_newest := f_newest) (f_keptNumbers := f_keptNumbers) (f_keptSectors := f_keptSectors) (f_kept := f_kept) (f_thrown := f_thrown) (f_head := f_head) hw) (va_cwS 1 X.1.2.2.2.2 gX57_142 rfl rfl rfl hX57_turned ⟨Nat.le_of_ble_eq_true rfl, Nat.le_of_ble_eq_true rfl⟩) rfl hl.1 rfl (Nat.le_of_ble_eq_true rfl) dX57_page_99 ⟨Nat.le_refl 0, Nat.le_refl 0⟩) (fun r_32 _ H locs hw hH => ?_)
      have hH : kH (dC, dI) cl A s.heap H locs (wX57 ci ad d f_count f_runs f_full f_disk f_later f_open f_laid f_places f_changed f_targets f_bytes f_first f_behind f_numbers f_sectors f_oldest f_newest f_keptNumbers f_keptSectors f_kept f_thrown f_head) := hH
      refine k_i0 hH (k_runV (As := [.int 3, .int r_29, .int x2, .long r_32]) (rest := []) X hH.1 hH.2.1 X.2.2.2 (walkX57_lay hc (x1 := 3) (x2 := r_29) (x3 := x2) (x4 := r_32) (f_count := f_count) (f_runs := f_runs) (f_full := f_full) (f_disk := f_disk) (f_later := f_later) (f_open := f_open) (f_laid := f_laid) (f_places := f_places) (f_changed := f_changed) (f_targets := f_targets) (f_bytes := f_bytes) (f_first := f_first) (f_behind := f_behind) (f_numbers := f_numbers) (f_sectors := f_sectors) (f_oldest := f_oldest) (f_newest := f_newest) (f_keptNumbers := f_keptNumbers) (f_keptSectors := f_keptSectors) (f_kept := f_kept) (f_thrown := f_thrown) (f_head := f_head) hw) (cwV 4 X.1.2.2.2.2 gX57_146 rfl rfl rfl hX57_lay ⟨Nat.le_of_ble_eq_true rfl, Nat.le_of_ble_eq_true rfl⟩) hc (q0 := 0) rfl rfl hl.1 rfl (Nat.le_of_ble_eq_true rfl) dX57_page_102 ⟨Nat.le_refl 0, Nat.le_refl 0⟩) (fun r_33 u H locs hw hH => ?_)
      obtain ⟨f_open_34, f_laid_35, f_places_36, f_changed_37⟩ := u
      have hH : kH (dC, dI) cl A s.heap H locs (wX57 ci ad d f_count f_runs f_full f_disk f_later f_open_34 f_laid_35 f_places_36 f_changed_37 f_targets f_bytes f_first f_behind f_numbers f_sectors f_oldest f_newest f_keptNumbers f_keptSectors f_kept f_thrown f_head) := hH
      exact k_iret (v := r_33) X hH (f_open_34, f_laid_35, f_places_36, f_changed_37) hw rfl rfl dX57_page_105
    · have hw := hw.1 (z_eq (rfl : r_27.toInt = _) (rfl : (3 : Int32).toInt = 3) c_28)
      refine lv_iconst (v := (-1)) hx hb dX57_page_78 (by decide) ?_
      refine lv_goto (tgt := 105) hx hb dX57_page_79 (by decide) ?_
      exact k_iret (v := (-1)) X hH (f_open, f_laid, f_places, f_changed) hw rfl rfl dX57_page_105
set_option maxHeartbeats 4000000 in
theorem walkX57_page {l : Launch} {dC : Nat → ClassId} {dI : Nat → Nat → Nat} {cl : List vw_C} {ci : Nat} (hc : cl[ci]? = some (RX57, TX57, 22)) {ad : Nat → Nat} {d : Nat → ClassId} {sz : Nat} {f_count : Int32} {f_runs : Int32} {f_full : Int32} {f_disk : Nat → Int32} {f_later : Nat → Int32} {f_open : Nat → Int32} {f_laid : Nat → Int32} {f_places : Nat → Int32} {f_changed : Int32} {f_targets : Nat → Int32} {f_bytes : Nat → Int32} {f_first : Int32} {f_behind : Int32} {f_numbers : Nat → Int32} {f_sectors : Nat → Int64} {f_oldest : Int32} {f_newest : Int32} {f_keptNumbers : Nat → Int32} {f_keptSectors : Nat → Int64} {f_kept : Int32} {f_thrown : Int32} {f_head : Nat → Int32} {x1 : Int32} {x2 : Int32} {x3 : Int64} {post : Int → (Int → Int) → (Int → Int) → (Int → Int) → Int → Prop} (hw : wpX57_page post f_count.toInt f_runs.toInt f_full.toInt (zF f_later) (zF f_open) (zF f_laid) (zF f_places) f_changed.toInt (zF f_targets) f_first.toInt f_behind.toInt (zG f_sectors) f_oldest.toInt f_newest.toInt (zG f_keptSectors) f_kept.toInt x1.toInt x2.toInt x3.toInt) :
    Met l yX57_page (ws_ yX57_page cX57_page 6 (some .int)) ({ frames := 4, cells := 0, slots := 0, locals := 94 } : Room) (kPc (dC, dI) cl (tX57 d) [.ref (ad 0), .int x1, .int x2, .long x3] sz (wX57 ci ad d f_count f_runs f_full f_disk f_later f_open f_laid f_places f_changed f_targets f_bytes f_first f_behind f_numbers f_sectors f_oldest f_newest f_keptNumbers f_keptSectors f_kept f_thrown f_head)) (va_Qi (fun (r : Int32) (u : (Nat → Int32) × (Nat → Int32) × (Nat → Int32) × Int32) => post r.toInt (zF (u.1)) (zF (u.2.1)) (zF (u.2.2.1)) (u.2.2.2).toInt) (kB (dC, dI) cl (tX57 d) (va_A (wX57 ci ad d f_count f_runs f_full f_disk f_later f_open f_laid f_places f_changed f_targets f_bytes f_first f_behind f_numbers f_sectors f_oldest f_newest f_keptNumbers f_keptSectors f_kept f_thrown f_head) sz) (fun u : (Nat → Int32) × (Nat → Int32) × (Nat → Int32) × Int32 => (wX57 ci ad d f_count f_runs f_full f_disk f_later (u.1) (u.2.1) (u.2.2.1) (u.2.2.2) f_targets f_bytes f_first f_behind f_numbers f_sectors f_oldest f_newest f_keptNumbers f_keptSectors f_kept f_thrown f_head))) (va_A (wX57 ci ad d f_count f_runs f_full f_disk f_later f_open f_laid f_places f_changed f_targets f_bytes f_first f_behind f_numbers f_sectors f_oldest f_newest f_keptNumbers f_keptSectors f_kept f_thrown f_head) sz)) 0 0 (va_A (wX57 ci ad d f_count f_runs f_full f_disk f_later f_open f_laid f_places f_changed f_targets f_bytes f_first f_behind f_numbers f_sectors f_oldest f_newest f_keptNumbers f_keptSectors f_kept f_thrown f_head) sz) := by
  refine k_enter (by decide) (Nat.le_of_ble_eq_true rfl) ?_
  intro p e s m below meth c ls X hsz hH hl
  subst hsz
  generalize va_A (wX57 ci ad d f_count f_runs f_full f_disk f_later f_open f_laid f_places f_changed f_targets f_bytes f_first f_behind f_numbers f_sectors f_oldest f_newest f_keptNumbers f_keptSectors f_kept f_thrown f_head) s.heap.size = A at hH ⊢
  have hx := X.1.1
  have hb := X.1.2.1
  have hl : lv_has ls 6 [(0, .ref (ad 0)), (1, .int x1), (2, .int x2), (3, .long x3)] := hl
  unfold wpX57_page at hw
  refine lv_aload_n hx hb dX57_page_0 rfl (lv_at hl 0 rfl) ?_
  refine k_get X hH in_X57 0 rfl hc 1 (by decide) q6791 rfl dX57_page_1 ?_
  refine lv_if_ne (tgt := 10) hx hb dX57_page_4 (by decide) (fun c_1 => ?_) (fun c_1 => ?_)
  · have hw := hw.2 (z_ne (rfl : f_runs.toInt = _) (rfl : (0 : Int32).toInt = 0) c_1)
    refine lv_iload_n hx hb dX57_page_10 rfl (lv_at hl 1 rfl) ?_
    refine lv_if_lt (tgt := 19) hx hb dX57_page_11 (by decide) (fun c_2 => ?_) (fun c_2 => ?_)
    · have hw := hw.1 (z_lt (rfl : x1.toInt = _) (rfl : (0 : Int32).toInt = 0) c_2)
      refine lv_bipush (v := (-2)) hx hb dX57_page_19 (by decide) ?_
      exact k_iret (v := (-2)) X hH (f_open, f_laid, f_places, f_changed) hw rfl rfl dX57_page_21
    · have hw := hw.2 (z_nlt (rfl : x1.toInt = _) (rfl : (0 : Int32).toInt = 0) c_2)
      refine lv_iload_n hx hb dX57_page_14 rfl (lv_at hl 1 rfl) ?_
      refine lv_iconst (v := 3) hx hb dX57_page_15 (by decide) ?_
      refine lv_icmp_le (tgt := 22) hx hb dX57_page_16 (by decide) (fun c_3 => ?_) (fun c_3 => ?_)
      · have hw := hw.1 (z_le (rfl : x1.toInt = _) (rfl : (3 : Int32).toInt = 3) c_3)
        refine lv_iload_n hx hb dX57_page_22 rfl (lv_at hl 2 rfl) ?_
        refine lv_iconst (v := (-1)) hx hb dX57_page_23 (by decide) ?_
        refine lv_icmp_ne (tgt := 41) hx hb dX57_page_24 (by decide) (fun c_4 => ?_) (fun c_4 => ?_)
        · have hw := hw.2 (z_ne (rfl : x2.toInt = _) (rfl : ((-1) : Int32).toInt = (-1)) c_4)
          refine lv_iconst (v := 0) hx hb dX57_page_41 (by decide) ?_
          refine lv_istore (lv' := [(5, .int 0), (0, .ref (ad 0)), (1, .int x1), (2, .int x2), (3, .long x3)]) hx hb dX57_page_42 hl (by decide) rfl (fun ls hl => ?_)
          refine lv_iload hx hb dX57_page_44 (lv_at hl 0 rfl) ?_
          refine lv_if_ne (tgt := 59) hx hb dX57_page_46 (by decide) (fun c_5 => ?_) (fun c_5 => ?_)
          · have hw := hw.2 (z_ne (rfl : (0 : Int32).toInt = 0) (rfl : (0 : Int32).toInt = 0) c_5)
            exact atX57_page_59 hc X x1 x2 x3 0 f_open f_laid f_places f_changed hw _ _ ls hH (lv_sub hl [1, 2, 3, 4, 0] rfl)
          · have hw := hw.1 (z_eq (rfl : (0 : Int32).toInt = 0) (rfl : (0 : Int32).toInt = 0) c_5)
            refine lv_aload_n hx hb dX57_page_49 rfl (lv_at hl 1 rfl) ?_
            refine lv_iload_n hx hb dX57_page_50 rfl (lv_at hl 3 rfl) ?_
            refine k_i0 hH (k_runV (As := [.int x2]) (rest := []) X hH.1 hH.2.1 X.2.2.2 (walkX57_isPage hc (x1 := x2) (f_count := f_count) (f_runs := f_runs) (f_full := f_full) (f_disk := f_disk) (f_later := f_later) (f_open := f_open) (f_laid := f_laid) (f_places := f_places) (f_changed := f_changed) (f_targets := f_targets) (f_bytes := f_bytes) (f_first := f_first) (f_behind := f_behind) (f_numbers := f_numbers) (f_sectors := f_sectors) (f_oldest := f_oldest) (f_newest := f_newest) (f_keptNumbers := f_keptNumbers) (f_keptSectors := f_keptSectors) (f_kept := f_kept) (f_thrown := f_thrown) (f_head := f_head) hw) (cwV 1 X.1.2.2.2.2 gX57_128 rfl rfl rfl hX57_isPage ⟨Nat.le_of_ble_eq_true rfl, Nat.le_of_ble_eq_true rfl⟩) hc (q0 := 0) rfl rfl hl.1 rfl (Nat.le_of_ble_eq_true rfl) dX57_page_51 ⟨Nat.le_refl 0, Nat.le_refl 0⟩) (fun r_38 _ H locs hw hH => ?_)
            have hH : kH (dC, dI) cl A s.heap H locs (wX57 ci ad d f_count f_runs f_full f_disk f_later f_open f_laid f_places f_changed f_targets f_bytes f_first f_behind f_numbers f_sectors f_oldest f_newest f_keptNumbers f_keptSectors f_kept f_thrown f_head) := hH
            refine lv_if_ne (tgt := 59) hx hb dX57_page_54 (by decide) (fun c_39 => ?_) (fun c_39 => ?_)
            · have hw := hw.2 (z_ne (rfl : r_38.toInt = _) (rfl : (0 : Int32).toInt = 0) c_39)
              exact atX57_page_59 hc X x1 x2 x3 0 f_open f_laid f_places f_changed hw _ _ ls hH (lv_sub hl [1, 2, 3, 4, 0] rfl)
            · have hw := hw.1 (z_eq (rfl : r_38.toInt = _) (rfl : (0 : Int32).toInt = 0) c_39)
              refine lv_iconst (v := (-1)) hx hb dX57_page_57 (by decide) ?_
              exact k_iret (v := (-1)) X hH (f_open, f_laid, f_places, f_changed) hw rfl rfl dX57_page_58
        · have hw := hw.1 (z_eq (rfl : x2.toInt = _) (rfl : ((-1) : Int32).toInt = (-1)) c_4)
          refine lv_iload_n hx hb dX57_page_27 rfl (lv_at hl 1 rfl) ?_
          refine lv_iconst (v := 1) hx hb dX57_page_28 (by decide) ?_
          refine lv_icmp_eq (tgt := 37) hx hb dX57_page_29 (by decide) (fun c_40 => ?_) (fun c_40 => ?_)
          · have hw := hw.1 (z_eq (rfl : x1.toInt = _) (rfl : (1 : Int32).toInt = 1) c_40)
            refine lv_iconst (v := 1) hx hb dX57_page_37 (by decide) ?_
            refine lv_goto (tgt := 42) hx hb dX57_page_38 (by decide) ?_
            refine lv_istore (lv' := [(5, .int 1), (0, .ref (ad 0)), (1, .int x1), (2, .int x2), (3, .long x3)]) hx hb dX57_page_42 hl (by decide) rfl (fun ls hl => ?_)
            refine lv_iload hx hb dX57_page_44 (lv_at hl 0 rfl) ?_
            refine lv_if_ne (tgt := 59) hx hb dX57_page_46 (by decide) (fun c_41 => ?_) (fun c_41 => ?_)
            · have hw := hw.2 (z_ne (rfl : (1 : Int32).toInt = 1) (rfl : (0 : Int32).toInt = 0) c_41)
              exact atX57_page_59 hc X x1 x2 x3 1 f_open f_laid f_places f_changed hw _ _ ls hH (lv_sub hl [1, 2, 3, 4, 0] rfl)
            · have hw := hw.1 (z_eq (rfl : (1 : Int32).toInt = 1) (rfl : (0 : Int32).toInt = 0) c_41)
              refine lv_aload_n hx hb dX57_page_49 rfl (lv_at hl 1 rfl) ?_
              refine lv_iload_n hx hb dX57_page_50 rfl (lv_at hl 3 rfl) ?_
              refine k_i0 hH (k_runV (As := [.int x2]) (rest := []) X hH.1 hH.2.1 X.2.2.2 (walkX57_isPage hc (x1 := x2) (f_count := f_count) (f_runs := f_runs) (f_full := f_full) (f_disk := f_disk) (f_later := f_later) (f_open := f_open) (f_laid := f_laid) (f_places := f_places) (f_changed := f_changed) (f_targets := f_targets) (f_bytes := f_bytes) (f_first := f_first) (f_behind := f_behind) (f_numbers := f_numbers) (f_sectors := f_sectors) (f_oldest := f_oldest) (f_newest := f_newest) (f_keptNumbers := f_keptNumbers) (f_keptSectors := f_keptSectors) (f_kept := f_kept) (f_thrown := f_thrown) (f_head := f_head) hw) (cwV 1 X.1.2.2.2.2 gX57_128 rfl rfl rfl hX57_isPage ⟨Nat.le_of_ble_eq_true rfl, Nat.le_of_ble_eq_true rfl⟩) hc (q0 := 0) rfl rfl hl.1 rfl (Nat.le_of_ble_eq_true rfl) dX57_page_51 ⟨Nat.le_refl 0, Nat.le_refl 0⟩) (fun r_42 _ H locs hw hH => ?_)
              have hH : kH (dC, dI) cl A s.heap H locs (wX57 ci ad d f_count f_runs f_full f_disk f_later f_open f_laid f_places f_changed f_targets f_bytes f_first f_behind f_numbers f_sectors f_oldest f_newest f_keptNumbers f_keptSectors f_kept f_thrown f_head) := hH
              refine lv_if_ne (tgt := 59) hx hb dX57_page_54 (by decide) (fun c_43 => ?_) (fun c_43 => ?_)
              · have hw := hw.2 (z_ne (rfl : r_42.toInt = _) (rfl : (0 : Int32).toInt = 0) c_43)
                exact atX57_page_59 hc X x1 x2 x3 1 f_open f_laid f_places f_changed hw _ _ ls hH (lv_sub hl [1, 2, 3, 4, 0] rfl)
              · have hw := hw.1 (z_eq (rfl : r_42.toInt = _) (rfl : (0 : Int32).toInt = 0) c_43)
                refine lv_iconst (v := (-1)) hx hb dX57_page_57 (by decide) ?_
                exact k_iret (v := (-1)) X hH (f_open, f_laid, f_places, f_changed) hw rfl rfl dX57_page_58
          · have hw := hw.2 (z_neq (rfl : x1.toInt = _) (rfl : (1 : Int32).toInt = 1) c_40)
            refine lv_iload_n hx hb dX57_page_32 rfl (lv_at hl 1 rfl) ?_
            refine lv_iconst (v := 2) hx hb dX57_page_33 (by decide) ?_
            refine lv_icmp_ne (tgt := 41) hx hb dX57_page_34 (by decide) (fun c_44 => ?_) (fun c_44 => ?_)
            · have hw := hw.2 (z_ne (rfl : x1.toInt = _) (rfl : (2 : Int32).toInt = 2) c_44)
              refine lv_iconst (v := 0) hx hb dX57_page_41 (by decide) ?_
              refine lv_istore (lv' := [(5, .int 0), (0, .ref (ad 0)), (1, .int x1), (2, .int x2), (3, .long x3)]) hx hb dX57_page_42 hl (by decide) rfl (fun ls hl => ?_)
              refine lv_iload hx hb dX57_page_44 (lv_at hl 0 rfl) ?_
              refine lv_if_ne (tgt := 59) hx hb dX57_page_46 (by decide) (fun c_45 => ?_) (fun c_45 => ?_)
              · have hw := hw.2 (z_ne (rfl : (0 : Int32).toInt = 0) (rfl : (0 : Int32).toInt = 0) c_45)
                exact atX57_page_59 hc X x1 x2 x3 0 f_open f_laid f_places f_changed hw _ _ ls hH (lv_sub hl [1, 2, 3, 4, 0] rfl)
              · have hw := hw.1 (z_eq (rfl : (0 : Int32).toInt = 0) (rfl : (0 : Int32).toInt = 0) c_45)
                refine lv_aload_n hx hb dX57_page_49 rfl (lv_at hl 1 rfl) ?_
                refine lv_iload_n hx hb dX57_page_50 rfl (lv_at hl 3 rfl) ?_
                refine k_i0 hH (k_runV (As := [.int x2]) (rest := []) X hH.1 hH.2.1 X.2.2.2 (walkX57_isPage hc (x1 := x2) (f_count := f_count) (f_runs := f_runs) (f_full := f_full) (f_disk := f_disk) (f_later := f_later) (f_open := f_open) (f_laid := f_laid) (f_places := f_places) (f_changed := f_changed) (f_targets := f_targets) (f_bytes := f_bytes) (f_first := f_first) (f_behind := f_behind) (f_numbers := f_numbers) (f_sectors := f_sectors) (f_oldest := f_oldest) (f_newest := f_newest) (f_keptNumbers := f_keptNumbers) (f_keptSectors := f_keptSectors) (f_kept := f_kept) (f_thrown := f_thrown) (f_head := f_head) hw) (cwV 1 X.1.2.2.2.2 gX57_128 rfl rfl rfl hX57_isPage ⟨Nat.le_of_ble_eq_true rfl, Nat.le_of_ble_eq_true rfl⟩) hc (q0 := 0) rfl rfl hl.1 rfl (Nat.le_of_ble_eq_true rfl) dX57_page_51 ⟨Nat.le_refl 0, Nat.le_refl 0⟩) (fun r_46 _ H locs hw hH => ?_)
                have hH : kH (dC, dI) cl A s.heap H locs (wX57 ci ad d f_count f_runs f_full f_disk f_later f_open f_laid f_places f_changed f_targets f_bytes f_first f_behind f_numbers f_sectors f_oldest f_newest f_keptNumbers f_keptSectors f_kept f_thrown f_head) := hH
                refine lv_if_ne (tgt := 59) hx hb dX57_page_54 (by decide) (fun c_47 => ?_) (fun c_47 => ?_)
                · have hw := hw.2 (z_ne (rfl : r_46.toInt = _) (rfl : (0 : Int32).toInt = 0) c_47)
                  exact atX57_page_59 hc X x1 x2 x3 0 f_open f_laid f_places f_changed hw _ _ ls hH (lv_sub hl [1, 2, 3, 4, 0] rfl)
                · have hw := hw.1 (z_eq (rfl : r_46.toInt = _) (rfl : (0 : Int32).toInt = 0) c_47)
                  refine lv_iconst (v := (-1)) hx hb dX57_page_57 (by decide) ?_
                  exact k_iret (v := (-1)) X hH (f_open, f_laid, f_places, f_changed) hw rfl rfl dX57_page_58
            · have hw := hw.1 (z_eq (rfl : x1.toInt = _) (rfl : (2 : Int32).toInt = 2) c_44)
              refine lv_iconst (v := 1) hx hb dX57_page_37 (by decide) ?_
              refine lv_goto (tgt := 42) hx hb dX57_page_38 (by decide) ?_
              refine lv_istore (lv' := [(5, .int 1), (0, .ref (ad 0)), (1, .int x1), (2, .int x2), (3, .long x3)]) hx hb dX57_page_42 hl (by decide) rfl (fun ls hl => ?_)
              refine lv_iload hx hb dX57_page_44 (lv_at hl 0 rfl) ?_
              refine lv_if_ne (tgt := 59) hx hb dX57_page_46 (by decide) (fun c_48 => ?_) (fun c_48 => ?_)
              · have hw := hw.2 (z_ne (rfl : (1 : Int32).toInt = 1) (rfl : (0 : Int32).toInt = 0) c_48)
                exact atX57_page_59 hc X x1 x2 x3 1 f_open f_laid f_places f_changed hw _ _ ls hH (lv_sub hl [1, 2, 3, 4, 0] rfl)
              · have hw := hw.1 (z_eq (rfl : (1 : Int32).toInt = 1) (rfl : (0 : Int32).toInt = 0) c_48)
                refine lv_aload_n hx hb dX57_page_49 rfl (lv_at hl 1 rfl) ?_
                refine lv_iload_n hx hb dX57_page_50 rfl (lv_at hl 3 rfl) ?_
                refine k_i0 hH (k_runV (As := [.int x2]) (rest := []) X hH.1 hH.2.1 X.2.2.2 (walkX57_isPage hc (x1 := x2) (f_count := f_count) (f_runs := f_runs) (f_full := f_full) (f_disk := f_disk) (f_later := f_later) (f_open := f_open) (f_laid := f_laid) (f_places := f_places) (f_changed := f_changed) (f_targets := f_targets) (f_bytes := f_bytes) (f_first := f_first) (f_behind := f_behind) (f_numbers := f_numbers) (f_sectors := f_sectors) (f_oldest := f_oldest) (f_newest := f_newest) (f_keptNumbers := f_keptNumbers) (f_keptSectors := f_keptSectors) (f_kept := f_kept) (f_thrown := f_thrown) (f_head := f_head) hw) (cwV 1 X.1.2.2.2.2 gX57_128 rfl rfl rfl hX57_isPage ⟨Nat.le_of_ble_eq_true rfl, Nat.le_of_ble_eq_true rfl⟩) hc (q0 := 0) rfl rfl hl.1 rfl (Nat.le_of_ble_eq_true rfl) dX57_page_51 ⟨Nat.le_refl 0, Nat.le_refl 0⟩) (fun r_49 _ H locs hw hH => ?_)
                have hH : kH (dC, dI) cl A s.heap H locs (wX57 ci ad d f_count f_runs f_full f_disk f_later f_open f_laid f_places f_changed f_targets f_bytes f_first f_behind f_numbers f_sectors f_oldest f_newest f_keptNumbers f_keptSectors f_kept f_thrown f_head) := hH
                refine lv_if_ne (tgt := 59) hx hb dX57_page_54 (by decide) (fun c_50 => ?_) (fun c_50 => ?_)
                · have hw := hw.2 (z_ne (rfl : r_49.toInt = _) (rfl : (0 : Int32).toInt = 0) c_50)
                  exact atX57_page_59 hc X x1 x2 x3 1 f_open f_laid f_places f_changed hw _ _ ls hH (lv_sub hl [1, 2, 3, 4, 0] rfl)
                · have hw := hw.1 (z_eq (rfl : r_49.toInt = _) (rfl : (0 : Int32).toInt = 0) c_50)
                  refine lv_iconst (v := (-1)) hx hb dX57_page_57 (by decide) ?_
                  exact k_iret (v := (-1)) X hH (f_open, f_laid, f_places, f_changed) hw rfl rfl dX57_page_58
      · have hw := hw.2 (z_nle (rfl : x1.toInt = _) (rfl : (3 : Int32).toInt = 3) c_3)
        refine lv_bipush (v := (-2)) hx hb dX57_page_19 (by decide) ?_
        exact k_iret (v := (-2)) X hH (f_open, f_laid, f_places, f_changed) hw rfl rfl dX57_page_21
  · have hw := hw.1 (z_eq (rfl : f_runs.toInt = _) (rfl : (0 : Int32).toInt = 0) c_1)
    refine lv_bipush (v := (-3)) hx hb dX57_page_7 (by decide) ?_
    exact k_iret (v := (-3)) X hH (f_open, f_laid, f_places, f_changed) hw rfl rfl dX57_page_9
set_option maxHeartbeats 4000000 in
theorem atX57_queue_open_13 {p : Program} {l : Launch} {e : Env} {s : State} {m : MethodId} {args : Array Value} {below : List Frame} {meth : Method} {c : Code} {dC : Nat → ClassId} {dI : Nat → Nat → Nat} {cl : List vw_C} {ci : Nat} (hc : cl[ci]? = some (RX57, TX57, 22)) {ad : Nat → Nat} {d : Nat → ClassId} {A : Nat → Prop} {post : (Int → Int) → (Int → Int) → (Int → Int) → Int → Prop} {f_count : Int32} {f_runs : Int32} {f_full : Int32} {f_disk : Nat → Int32} {f_open : Nat → Int32} {f_laid : Nat → Int32} {f_places : Nat → Int32} {f_changed : Int32} {f_first : Int32} {f_numbers : Nat → Int32} {f_sectors : Nat → Int64} {f_oldest : Int32} {f_newest : Int32} {f_keptNumbers : Nat → Int32} {f_keptSectors : Nat → Int64} {f_kept : Int32} {f_thrown : Int32} {f_head : Nat → Int32} (X : kX p s m args meth c cX57_queue 5 RX57 none (dC, dI) cl (tX57 d)) {K71 : (Int → Int) → (Int → Int) → Prop} {x2 : Int32} {x3 : Int32} {f_targets : Nat → Int32} {f_behind : Int32} (hk71 : ∀ (f_later : Nat → Int32) (f_bytes : Nat → Int32), K71 (zF f_later) (zF f_bytes) → ∀ (H : Heap) (locs : List Loc) (ls : Array Slot), kH (dC, dI) cl A s.heap H locs (wX57 ci ad d f_count f_runs f_full f_disk f_later f_open f_laid f_places f_changed f_targets f_bytes f_first f_behind f_numbers f_sectors f_oldest f_newest f_keptNumbers f_keptSectors f_kept f_thrown f_head) → lv_has ls 5 [(0, .ref (ad 0))] → W p l e ({ frames := 0, cells := 0, slots := 0, locals := 0 } : Room) s m args below meth c H locs 0 0 (MQ below (va_Qv (fun (u : (Nat → Int32) × (Nat → Int32) × (Nat → Int32) × Int32) => post (zF (u.1)) (zF (u.2.1)) (zF (u.2.2.1)) (u.2.2.2).toInt) (kB (dC, dI) cl (tX57 d) A (fun u : (Nat → Int32) × (Nat → Int32) × (Nat → Int32) × Int32 => (wX57 ci ad d f_count f_runs f_full f_disk (u.1) f_open f_laid f_places f_changed (u.2.1) (u.2.2.1) f_first (u.2.2.2) f_numbers f_sectors f_oldest f_newest f_keptNumbers f_keptSectors f_kept f_thrown f_head))) A) args s 0 0 A) (F0 m 71 ls [])) :
    ∀ (nn : Nat) (x4 : Int32) (f_later : Nat → Int32) (f_bytes : Nat → Int32), wX57_queue_open_13 K71 x2.toInt x3.toInt (zF f_open) f_behind.toInt nn x4.toInt (zF f_later) (zF f_bytes) → ∀ (H : Heap) (locs : List Loc) (ls : Array Slot), kH (dC, dI) cl A s.heap H locs (wX57 ci ad d f_count f_runs f_full f_disk f_later f_open f_laid f_places f_changed f_targets f_bytes f_first f_behind f_numbers f_sectors f_oldest f_newest f_keptNumbers f_keptSectors f_kept f_thrown f_head) → lv_has ls 5 [(0, .ref (ad 0)), (1, .ref (ad 3)), (2, .int x2), (3, .int x3), (4, .int x4)] → W p l e ({ frames := 0, cells := 0, slots := 0, locals := 0 } : Room) s m args below meth c H locs 0 0 (MQ below (va_Qv (fun (u : (Nat → Int32) × (Nat → Int32) × (Nat → Int32) × Int32) => post (zF (u.1)) (zF (u.2.1)) (zF (u.2.2.1)) (u.2.2.2).toInt) (kB (dC, dI) cl (tX57 d) A (fun u : (Nat → Int32) × (Nat → Int32) × (Nat → Int32) × Int32 => (wX57 ci ad d f_count f_runs f_full f_disk (u.1) f_open f_laid f_places f_changed (u.2.1) (u.2.2.1) f_first (u.2.2.2) f_numbers f_sectors f_oldest f_newest f_keptNumbers f_keptSectors f_kept f_thrown f_head))) A) args s 0 0 A) (F0 m 13 ls []) := by
  have hx := X.1.1
  have hb := X.1.2.1
  intro nn
  induction nn with
  | zero =>
    intro x4 f_later f_bytes hw
    exact False.elim hw
  | succ n ih =>
    intro x4 f_later f_bytes hw H locs ls hH hl
    rw [wX57_queue_open_13] at hw
    refine lv_iload hx hb dX57_queue_13 (lv_at hl 4 rfl) ?_
    refine lv_bipush (v := 32) hx hb dX57_queue_15 (by decide) ?_
    refine lv_icmp_ge (tgt := 71) hx hb dX57_queue_17 (by decide) (fun c_3 => ?_) (fun c_3 => ?_)
    · have hw := hw.1 (z_le (rfl : (32 : Int32).toInt = 32) (rfl : x4.toInt = _) c_3)
      exact hk71 f_later f_bytes hw _ _ ls hH (lv_sub hl [0] rfl)
    · have hw := hw.2 (z_nle (rfl : (32 : Int32).toInt = 32) (rfl : x4.toInt = _) c_3)
      refine lv_aload_n hx hb dX57_queue_20 rfl (lv_at hl 0 rfl) ?_
      refine k_get X hH in_X57 0 rfl hc 10 (by decide) q6800 rfl dX57_queue_21 ?_
      refine lv_bipush (v := 32) hx hb dX57_queue_24 (by decide) ?_
      refine lv_aload_n hx hb dX57_queue_26 rfl (lv_at hl 0 rfl) ?_
      refine k_get X hH in_X57 0 rfl hc 12 (by decide) q6802 rfl dX57_queue_27 ?_
      refine lv_imul hx hb dX57_queue_30 ?_
      have e_4 := z_mul (z_m (rfl : (32 : Int32).toInt = 32)) (z_m (rfl : f_behind.toInt = _))
      refine lv_iload hx hb dX57_queue_31 (lv_at hl 4 rfl) ?_
      refine lv_iadd hx hb dX57_queue_33 ?_
      have e_5 := z_add e_4 (z_m (rfl : x4.toInt = _))
      refine lv_aload_n hx hb dX57_queue_34 rfl (lv_at hl 1 rfl) ?_
      refine lv_bipush (v := 32) hx hb dX57_queue_35 (by decide) ?_
      refine lv_iload_n hx hb dX57_queue_37 rfl (lv_at hl 2 rfl) ?_
      refine lv_imul hx hb dX57_queue_38 ?_
      have e_6 := z_mul (z_m (rfl : (32 : Int32).toInt = 32)) (z_m (rfl : x2.toInt = _))
      refine lv_iload hx hb dX57_queue_39 (lv_at hl 4 rfl) ?_
      refine lv_iadd hx hb dX57_queue_41 ?_
      have e_7 := z_add e_6 (z_m (rfl : x4.toInt = _))
      have hq_8 := hw.1
      have hw := hw.2
      have e_9 := z_xi e_7 hq_8 (by decide)
      refine k_iald X hH 3 2 rfl rfl (z_in e_9 hq_8) dX57_queue_42 ?_
      have e_10 := z_ld (f := f_open) e_9 hq_8.1
      refine lv_topi (fun v_11 ev_11 => ?_)
      have hw := hw v_11.toInt (by rw [ev_11]; exact e_10)
      have hq_13 := hw.1
      have hw := hw.2
      have e_14 := z_xi e_5 hq_13 (by decide)
      obtain ⟨f_bytes_12, ef_bytes_12⟩ : ∃ y : Nat → Int32, y = upd f_bytes ((32 * f_behind) + x4).toNatClampNeg v_11 := ⟨_, rfl⟩
      refine k_iast X hH 7 6 rfl rfl (z_in e_14 hq_13) dX57_queue_43 ef_bytes_12 (ws1 := (wX57 ci ad d f_count f_runs f_full f_disk f_later f_open f_laid f_places f_changed f_targets f_bytes_12 f_first f_behind f_numbers f_sectors f_oldest f_newest f_keptNumbers f_keptSectors f_kept f_thrown f_head)) rfl (fun H locs hH => ?_)
      have hw := hw (zF f_bytes_12) (by rw [ef_bytes_12]; exact z_st (f := f_bytes) e_14 hq_13.1 (rfl : v_11.toInt = _))
      refine lv_aload_n hx hb dX57_queue_44 rfl (lv_at hl 0 rfl) ?_
      refine k_get X hH in_X57 0 rfl hc 4 (by decide) q6794 rfl dX57_queue_45 ?_
      refine lv_bipush (v := 32) hx hb dX57_queue_48 (by decide) ?_
      refine lv_iload_n hx hb dX57_queue_50 rfl (lv_at hl 3 rfl) ?_
      refine lv_imul hx hb dX57_queue_51 ?_
      have e_15 := z_mul (z_m (rfl : (32 : Int32).toInt = 32)) (z_m (rfl : x3.toInt = _))
      refine lv_iload hx hb dX57_queue_52 (lv_at hl 4 rfl) ?_
      refine lv_iadd hx hb dX57_queue_54 ?_
      have e_16 := z_add e_15 (z_m (rfl : x4.toInt = _))
      refine lv_aload_n hx hb dX57_queue_55 rfl (lv_at hl 1 rfl) ?_
      refine lv_bipush (v := 32) hx hb dX57_queue_56 (by decide) ?_
      refine lv_iload_n hx hb dX57_queue_58 rfl (lv_at hl 2 rfl) ?_
      refine lv_imul hx hb dX57_queue_59 ?_
      have e_17 := z_mul (z_m (rfl : (32 : Int32).toInt = 32)) (z_m (rfl : x2.toInt = _))
      refine lv_iload hx hb dX57_queue_60 (lv_at hl 4 rfl) ?_
      refine lv_iadd hx hb dX57_queue_62 ?_
      have e_18 := z_add e_17 (z_m (rfl : x4.toInt = _))
      have e_19 := z_xi e_18 hq_8 (by decide)
      refine k_iald X hH 3 2 rfl rfl (z_in e_19 hq_8) dX57_queue_63 ?_
      have e_20 := z_ld (f := f_open) e_19 hq_8.1
      refine lv_topi (fun v_21 ev_21 => ?_)
      have hw := hw v_21.toInt (by rw [ev_21]; exact e_20)
      have hq_23 := hw.1
      have hw := hw.2
      have e_24 := z_xi e_16 hq_23 (by decide)
      obtain ⟨f_later_22, ef_later_22⟩ : ∃ y : Nat → Int32, y = upd f_later ((32 * x3) + x4).toNatClampNeg v_21 := ⟨_, rfl⟩
      refine k_iast X hH 2 1 rfl rfl (z_in e_24 hq_23) dX57_queue_64 ef_later_22 (ws1 := (wX57 ci ad d f_count f_runs f_full f_disk f_later_22 f_open f_laid f_places f_changed f_targets f_bytes_12 f_first f_behind f_numbers f_sectors f_oldest f_newest f_keptNumbers f_keptSectors f_kept f_thrown f_head)) rfl (fun H locs hH => ?_)
      have hw := hw (zF f_later_22) (by rw [ef_later_22]; exact z_st (f := f_later) e_24 hq_23.1 (rfl : v_21.toInt = _))
      have hq_26 := hw.1
      have hw := hw.2
      obtain ⟨x4_25, ex4_25⟩ : ∃ y : Int32, y = x4 + 1 := ⟨_, rfl⟩
      have hw := hw x4_25.toInt (by rw [ex4_25]; exact (z_x (z_add (z_m (rfl : x4.toInt = _)) (z_m (rfl : (1 : Int32).toInt = 1))) hq_26))
      refine lv_iinc (v := x4_25) (lv' := [(4, .int x4_25), (0, .ref (ad 0)), (1, .ref (ad 3)), (2, .int x2), (3, .int x3)]) hx hb dX57_queue_65 hl (k := 4) rfl (by rw [ex4_25]; rfl) (by decide) rfl (fun ls hl => ?_)
      refine lv_goto (tgt := 13) hx hb dX57_queue_68 (by decide) ?_
      exact ih x4_25 f_later_22 f_bytes_12 hw _ _ ls hH (lv_sub hl [1, 2, 3, 4, 0] rfl)
set_option maxHeartbeats 4000000 in
theorem walkX57_queue_open {l : Launch} {dC : Nat → ClassId} {dI : Nat → Nat → Nat} {cl : List vw_C} {ci : Nat} (hc : cl[ci]? = some (RX57, TX57, 22)) {ad : Nat → Nat} {d : Nat → ClassId} {sz : Nat} {f_count : Int32} {f_runs : Int32} {f_full : Int32} {f_disk : Nat → Int32} {f_later : Nat → Int32} {f_open : Nat → Int32} {f_laid : Nat → Int32} {f_places : Nat → Int32} {f_changed : Int32} {f_targets : Nat → Int32} {f_bytes : Nat → Int32} {f_first : Int32} {f_behind : Int32} {f_numbers : Nat → Int32} {f_sectors : Nat → Int64} {f_oldest : Int32} {f_newest : Int32} {f_keptNumbers : Nat → Int32} {f_keptSectors : Nat → Int64} {f_kept : Int32} {f_thrown : Int32} {f_head : Nat → Int32} {x2 : Int32} {x3 : Int32} {post : (Int → Int) → (Int → Int) → (Int → Int) → Int → Prop} (hw : wpX57_queue_open post (zF f_later) (zF f_open) (zF f_targets) (zF f_bytes) f_behind.toInt x2.toInt x3.toInt) :
    Met l yX57_queue (ws_ yX57_queue cX57_queue 5 none) ({ frames := 0, cells := 0, slots := 0, locals := 0 } : Room) (kPc (dC, dI) cl (tX57 d) [.ref (ad 0), .ref (ad 3), .int x2, .int x3] sz (wX57 ci ad d f_count f_runs f_full f_disk f_later f_open f_laid f_places f_changed f_targets f_bytes f_first f_behind f_numbers f_sectors f_oldest f_newest f_keptNumbers f_keptSectors f_kept f_thrown f_head)) (va_Qv (fun (u : (Nat → Int32) × (Nat → Int32) × (Nat → Int32) × Int32) => post (zF (u.1)) (zF (u.2.1)) (zF (u.2.2.1)) (u.2.2.2).toInt) (kB (dC, dI) cl (tX57 d) (va_A (wX57 ci ad d f_count f_runs f_full f_disk f_later f_open f_laid f_places f_changed f_targets f_bytes f_first f_behind f_numbers f_sectors f_oldest f_newest f_keptNumbers f_keptSectors f_kept f_thrown f_head) sz) (fun u : (Nat → Int32) × (Nat → Int32) × (Nat → Int32) × Int32 => (wX57 ci ad d f_count f_runs f_full f_disk (u.1) f_open f_laid f_places f_changed (u.2.1) (u.2.2.1) f_first (u.2.2.2) f_numbers f_sectors f_oldest f_newest f_keptNumbers f_keptSectors f_kept f_thrown f_head))) (va_A (wX57 ci ad d f_count f_runs f_full f_disk f_later f_open f_laid f_places f_changed f_targets f_bytes f_first f_behind f_numbers f_sectors f_oldest f_newest f_keptNumbers f_keptSectors f_kept f_thrown f_head) sz)) 0 0 (va_A (wX57 ci ad d f_count f_runs f_full f_disk f_later f_open f_laid f_places f_changed f_targets f_bytes f_first f_behind f_numbers f_sectors f_oldest f_newest f_keptNumbers f_keptSectors f_kept f_thrown f_head) sz) := by
  refine k_enter (by decide) (Nat.le_of_ble_eq_true rfl) ?_
  intro p e s m below meth c ls X hsz hH hl
  subst hsz
  generalize va_A (wX57 ci ad d f_count f_runs f_full f_disk f_later f_open f_laid f_places f_changed f_targets f_bytes f_first f_behind f_numbers f_sectors f_oldest f_newest f_keptNumbers f_keptSectors f_kept f_thrown f_head) s.heap.size = A at hH ⊢
  have hx := X.1.1
  have hb := X.1.2.1
  have hl : lv_has ls 5 [(0, .ref (ad 0)), (1, .ref (ad 3)), (2, .int x2), (3, .int x3)] := hl
  unfold wpX57_queue_open at hw
  refine lv_aload_n hx hb dX57_queue_0 rfl (lv_at hl 0 rfl) ?_
  refine k_get X hH in_X57 0 rfl hc 9 (by decide) q6799 rfl dX57_queue_1 ?_
  refine lv_aload_n hx hb dX57_queue_4 rfl (lv_at hl 0 rfl) ?_
  refine k_get X hH in_X57 0 rfl hc 12 (by decide) q6802 rfl dX57_queue_5 ?_
  refine lv_iload_n hx hb dX57_queue_8 rfl (lv_at hl 3 rfl) ?_
  have hq_2 := hw.1
  have hw := hw.2
  obtain ⟨f_targets_1, ef_targets_1⟩ : ∃ y : Nat → Int32, y = upd f_targets f_behind.toNatClampNeg x3 := ⟨_, rfl⟩
  refine k_iast X hH 6 5 rfl rfl (z_in (rfl : f_behind.toInt = _) hq_2) dX57_queue_9 ef_targets_1 (ws1 := (wX57 ci ad d f_count f_runs f_full f_disk f_later f_open f_laid f_places f_changed f_targets_1 f_bytes f_first f_behind f_numbers f_sectors f_oldest f_newest f_keptNumbers f_keptSectors f_kept f_thrown f_head)) rfl (fun H locs hH => ?_)
  have hw := hw (zF f_targets_1) (by rw [ef_targets_1]; exact z_st (f := f_targets) (rfl : f_behind.toInt = _) hq_2.1 (rfl : x3.toInt = _))
  refine lv_iconst (v := 0) hx hb dX57_queue_10 (by decide) ?_
  refine lv_istore (lv' := [(4, .int 0), (0, .ref (ad 0)), (1, .ref (ad 3)), (2, .int x2), (3, .int x3)]) hx hb dX57_queue_11 hl (by decide) rfl (fun ls hl => ?_)
  obtain ⟨fu, hw⟩ := hw
  refine atX57_queue_open_13 hc X ?_ fu 0 f_later f_bytes hw _ _ ls hH (lv_sub hl [1, 2, 3, 4, 0] rfl)
  · intro f_later_27 f_bytes_28 hw H locs ls hH hl
    refine lv_aload_n hx hb dX57_queue_71 rfl (lv_at hl 0 rfl) ?_
    refine lv_dup hx hb dX57_queue_72 rfl ?_
    refine k_get X hH in_X57 0 rfl hc 12 (by decide) q6802 rfl dX57_queue_73 ?_
    refine lv_iconst (v := 1) hx hb dX57_queue_76 (by decide) ?_
    refine lv_iadd hx hb dX57_queue_77 ?_
    have e_29 := z_add (z_m (rfl : f_behind.toInt = _)) (z_m (rfl : (1 : Int32).toInt = 1))
    have hq_30 := hw.1
    have hw := hw.2
    have e_31 := z_x e_29 hq_30
    refine lv_topi (fun f_behind_32 ef_behind_32 => ?_)
    have hw := hw f_behind_32.toInt (by rw [ef_behind_32]; exact e_31)
    refine k_put X hH in_X57 tyX57_ok nmX57 0 rfl hc 12 (by decide) q6802 rfl (ty := .int) rfl rfl rfl (Nat.le_of_ble_eq_true rfl) dX57_queue_78 (ws1 := (wX57 ci ad d f_count f_runs f_full f_disk f_later_27 f_open f_laid f_places f_changed f_targets_1 f_bytes_28 f_first f_behind_32 f_numbers f_sectors f_oldest f_newest f_keptNumbers f_keptSectors f_kept f_thrown f_head)) rfl (fun H locs hH => ?_)
    exact k_vret X hH (f_later_27, f_targets_1, f_bytes_28, f_behind_32) hw rfl dX57_queue_81
set_option maxHeartbeats 4000000 in
theorem atX57_set_head_2 {p : Program} {l : Launch} {e : Env} {s : State} {m : MethodId} {args : Array Value} {below : List Frame} {meth : Method} {c : Code} {dC : Nat → ClassId} {dI : Nat → Nat → Nat} {cl : List vw_C} {ci : Nat} (hc : cl[ci]? = some (RX57, TX57, 22)) {ad : Nat → Nat} {d : Nat → ClassId} {A : Nat → Prop} {post : (Int → Int) → Prop} {f_count : Int32} {f_runs : Int32} {f_full : Int32} {f_disk : Nat → Int32} {f_later : Nat → Int32} {f_open : Nat → Int32} {f_laid : Nat → Int32} {f_places : Nat → Int32} {f_changed : Int32} {f_targets : Nat → Int32} {f_bytes : Nat → Int32} {f_first : Int32} {f_behind : Int32} {f_numbers : Nat → Int32} {f_sectors : Nat → Int64} {f_oldest : Int32} {f_newest : Int32} {f_keptNumbers : Nat → Int32} {f_keptSectors : Nat → Int64} {f_kept : Int32} {f_thrown : Int32} (X : kX p s m args meth c cX57_set 4 RX57 none (dC, dI) cl (tX57 d)) {K31 : (Int → Int) → Prop} {x1 : Int32} {x2 : Int32}  (hk31 : ∀ (f_head : Nat → Int32), K31 (zF f_head) → ∀ (H : Heap) (locs : List Loc) (ls : Array Slot), kH (dC, dI) cl A s.heap H locs (wX57 ci ad d f_count f_runs f_full f_disk f_later f_open f_laid f_places f_changed f_targets f_bytes f_first f_behind f_numbers f_sectors f_oldest f_newest f_keptNumbers f_keptSectors f_kept f_thrown f_head) → lv_has ls 4 [] → W p l e ({ frames := 0, cells := 0, slots := 0, locals := 0 } : Room) s m args below meth c H locs 0 0 (MQ below (va_Qv (fun (u : (Nat → Int32)) => post (zF (u))) (kB (dC, dI) cl (tX57 d) A (fun u : (Nat → Int32) => (wX57 ci ad d f_count f_runs f_full f_disk f_later f_open f_laid f_places f_changed f_targets f_bytes f_first f_behind f_numbers f_sectors f_oldest f_newest f_keptNumbers f_keptSectors f_kept f_thrown (u)))) A) args s 0 0 A) (F0 m 31 ls [])) :
    ∀ (nn : Nat) (x3 : Int32) (f_head : Nat → Int32), wX57_set_head_2 K31 x1.toInt x2.toInt nn x3.toInt (zF f_head) → ∀ (H : Heap) (locs : List Loc) (ls : Array Slot), kH (dC, dI) cl A s.heap H locs (wX57 ci ad d f_count f_runs f_full f_disk f_later f_open f_laid f_places f_changed f_targets f_bytes f_first f_behind f_numbers f_sectors f_oldest f_newest f_keptNumbers f_keptSectors f_kept f_thrown f_head) → lv_has ls 4 [(0, .ref (ad 12)), (1, .int x1), (2, .int x2), (3, .int x3)] → W p l e ({ frames := 0, cells := 0, slots := 0, locals := 0 } : Room) s m args below meth c H locs 0 0 (MQ below (va_Qv (fun (u : (Nat → Int32)) => post (zF (u))) (kB (dC, dI) cl (tX57 d) A (fun u : (Nat → Int32) => (wX57 ci ad d f_count f_runs f_full f_disk f_later f_open f_laid f_places f_changed f_targets f_bytes f_first f_behind f_numbers f_sectors f_oldest f_newest f_keptNumbers f_keptSectors f_kept f_thrown (u)))) A) args s 0 0 A) (F0 m 2 ls []) := by
  have hx := X.1.1
  have hb := X.1.2.1
  intro nn
  induction nn with
  | zero =>
    intro x3 f_head hw
    exact False.elim hw
  | succ n ih =>
    intro x3 f_head hw H locs ls hH hl
    rw [wX57_set_head_2] at hw
    refine lv_iload_n hx hb dX57_set_2 rfl (lv_at hl 3 rfl) ?_
    refine lv_iconst (v := 4) hx hb dX57_set_3 (by decide) ?_
    refine lv_icmp_ge (tgt := 31) hx hb dX57_set_4 (by decide) (fun c_1 => ?_) (fun c_1 => ?_)
    · have hw := hw.1 (z_le (rfl : (4 : Int32).toInt = 4) (rfl : x3.toInt = _) c_1)
      exact hk31 f_head hw _ _ ls hH (lv_sub hl [] rfl)
    · have hw := hw.2 (z_nle (rfl : (4 : Int32).toInt = 4) (rfl : x3.toInt = _) c_1)
      refine lv_aload_n hx hb dX57_set_7 rfl (lv_at hl 0 rfl) ?_
      refine lv_iload_n hx hb dX57_set_8 rfl (lv_at hl 1 rfl) ?_
      refine lv_iload_n hx hb dX57_set_9 rfl (lv_at hl 3 rfl) ?_
      refine lv_iadd hx hb dX57_set_10 ?_
      have e_2 := z_add (z_m (rfl : x1.toInt = _)) (z_m (rfl : x3.toInt = _))
      refine lv_iload_n hx hb dX57_set_11 rfl (lv_at hl 2 rfl) ?_
      refine lv_bipush (v := 24) hx hb dX57_set_12 (by decide) ?_
      refine lv_bipush (v := 8) hx hb dX57_set_14 (by decide) ?_
      refine lv_iload_n hx hb dX57_set_16 rfl (lv_at hl 3 rfl) ?_
      refine lv_imul hx hb dX57_set_17 ?_
      have e_3 := z_mul (z_m (rfl : (8 : Int32).toInt = 8)) (z_m (rfl : x3.toInt = _))
      refine lv_isub hx hb dX57_set_18 ?_
      have e_4 := z_sub (z_m (rfl : (24 : Int32).toInt = 24)) e_3
      have hq_5 := hw.1
      have hw := hw.2
      have e_6 := z_x e_4 hq_5
      refine lv_ishr hx hb dX57_set_19 ?_
      have hq_7 := hw.1
      have hw := hw.2
      have e_8 := z_shrV (rfl : x2.toInt = _) e_6 hq_7
      refine lv_sipush (v := 255) hx hb dX57_set_20 (by decide) ?_
      refine lv_iand hx hb dX57_set_23 ?_
      have e_9 := z_mask (z_m e_8) (k := 8) (m := 255) (c := 256) (by decide)
      refine lv_topi (fun v_10 ev_10 => ?_)
      have hw := hw v_10.toInt (by rw [ev_10]; exact e_9)
      have hq_12 := hw.1
      have hw := hw.2
      have e_13 := z_xi e_2 hq_12 (by decide)
      obtain ⟨f_head_11, ef_head_11⟩ : ∃ y : Nat → Int32, y = upd f_head (x1 + x3).toNatClampNeg v_10 := ⟨_, rfl⟩
      refine k_iast X hH 12 11 rfl rfl (z_in e_13 hq_12) dX57_set_24 ef_head_11 (ws1 := (wX57 ci ad d f_count f_runs f_full f_disk f_later f_open f_laid f_places f_changed f_targets f_bytes f_first f_behind f_numbers f_sectors f_oldest f_newest f_keptNumbers f_keptSectors f_kept f_thrown f_head_11)) rfl (fun H locs hH => ?_)
      have hw := hw (zF f_head_11) (by rw [ef_head_11]; exact z_st (f := f_head) e_13 hq_12.1 (rfl : v_10.toInt = _))
      have hq_15 := hw.1
      have hw := hw.2
      obtain ⟨x3_14, ex3_14⟩ : ∃ y : Int32, y = x3 + 1 := ⟨_, rfl⟩
      have hw := hw x3_14.toInt (by rw [ex3_14]; exact (z_x (z_add (z_m (rfl : x3.toInt = _)) (z_m (rfl : (1 : Int32).toInt = 1))) hq_15))
      refine lv_iinc (v := x3_14) (lv' := [(3, .int x3_14), (0, .ref (ad 12)), (1, .int x1), (2, .int x2)]) hx hb dX57_set_25 hl (k := 3) rfl (by rw [ex3_14]; rfl) (by decide) rfl (fun ls hl => ?_)
      refine lv_goto (tgt := 2) hx hb dX57_set_28 (by decide) ?_
      exact ih x3_14 f_head_11 hw _ _ ls hH (lv_sub hl [1, 2, 3, 0] rfl)
set_option maxHeartbeats 4000000 in
theorem walkX57_set_head {l : Launch} {dC : Nat → ClassId} {dI : Nat → Nat → Nat} {cl : List vw_C} {ci : Nat} (hc : cl[ci]? = some (RX57, TX57, 22)) {ad : Nat → Nat} {d : Nat → ClassId} {sz : Nat} {f_count : Int32} {f_runs : Int32} {f_full : Int32} {f_disk : Nat → Int32} {f_later : Nat → Int32} {f_open : Nat → Int32} {f_laid : Nat → Int32} {f_places : Nat → Int32} {f_changed : Int32} {f_targets : Nat → Int32} {f_bytes : Nat → Int32} {f_first : Int32} {f_behind : Int32} {f_numbers : Nat → Int32} {f_sectors : Nat → Int64} {f_oldest : Int32} {f_newest : Int32} {f_keptNumbers : Nat → Int32} {f_keptSectors : Nat → Int64} {f_kept : Int32} {f_thrown : Int32} {f_head : Nat → Int32} {x1 : Int32} {x2 : Int32} {post : (Int → Int) → Prop} (hw : wpX57_set_head post (zF f_head) x1.toInt x2.toInt) :
    Met l yX57_set (ws_ yX57_set cX57_set 4 none) ({ frames := 0, cells := 0, slots := 0, locals := 0 } : Room) (kPc (dC, dI) cl (tX57 d) [.ref (ad 12), .int x1, .int x2] sz (wX57 ci ad d f_count f_runs f_full f_disk f_later f_open f_laid f_places f_changed f_targets f_bytes f_first f_behind f_numbers f_sectors f_oldest f_newest f_keptNumbers f_keptSectors f_kept f_thrown f_head)) (va_Qv (fun (u : (Nat → Int32)) => post (zF (u))) (kB (dC, dI) cl (tX57 d) (va_A (wX57 ci ad d f_count f_runs f_full f_disk f_later f_open f_laid f_places f_changed f_targets f_bytes f_first f_behind f_numbers f_sectors f_oldest f_newest f_keptNumbers f_keptSectors f_kept f_thrown f_head) sz) (fun u : (Nat → Int32) => (wX57 ci ad d f_count f_runs f_full f_disk f_later f_open f_laid f_places f_changed f_targets f_bytes f_first f_behind f_numbers f_sectors f_oldest f_newest f_keptNumbers f_keptSectors f_kept f_thrown (u)))) (va_A (wX57 ci ad d f_count f_runs f_full f_disk f_later f_open f_laid f_places f_changed f_targets f_bytes f_first f_behind f_numbers f_sectors f_oldest f_newest f_keptNumbers f_keptSectors f_kept f_thrown f_head) sz)) 0 0 (va_A (wX57 ci ad d f_count f_runs f_full f_disk f_later f_open f_laid f_places f_changed f_targets f_bytes f_first f_behind f_numbers f_sectors f_oldest f_newest f_keptNumbers f_keptSectors f_kept f_thrown f_head) sz) := by
  refine k_enter (by decide) (Nat.le_of_ble_eq_true rfl) ?_
  intro p e s m below meth c ls X hsz hH hl
  subst hsz
  generalize va_A (wX57 ci ad d f_count f_runs f_full f_disk f_later f_open f_laid f_places f_changed f_targets f_bytes f_first f_behind f_numbers f_sectors f_oldest f_newest f_keptNumbers f_keptSectors f_kept f_thrown f_head) s.heap.size = A at hH ⊢
  have hx := X.1.1
  have hb := X.1.2.1
  have hl : lv_has ls 4 [(0, .ref (ad 12)), (1, .int x1), (2, .int x2)] := hl
  unfold wpX57_set_head at hw
  refine lv_iconst (v := 0) hx hb dX57_set_0 (by decide) ?_
  refine lv_istore_n (lv' := [(3, .int 0), (0, .ref (ad 12)), (1, .int x1), (2, .int x2)]) hx hb dX57_set_1 rfl hl (by decide) rfl (fun ls hl => ?_)
  obtain ⟨fu, hw⟩ := hw
  refine atX57_set_head_2 hc X ?_ fu 0 f_head hw _ _ ls hH (lv_sub hl [1, 2, 3, 0] rfl)
  · intro f_head_16 hw H locs ls hH hl
    exact k_vret X hH (f_head_16) hw rfl dX57_set_31
set_option maxHeartbeats 4000000 in
theorem walkX57_setWide_head {l : Launch} {dC : Nat → ClassId} {dI : Nat → Nat → Nat} {cl : List vw_C} {ci : Nat} (hc : cl[ci]? = some (RX57, TX57, 22)) {ad : Nat → Nat} {d : Nat → ClassId} {sz : Nat} {f_count : Int32} {f_runs : Int32} {f_full : Int32} {f_disk : Nat → Int32} {f_later : Nat → Int32} {f_open : Nat → Int32} {f_laid : Nat → Int32} {f_places : Nat → Int32} {f_changed : Int32} {f_targets : Nat → Int32} {f_bytes : Nat → Int32} {f_first : Int32} {f_behind : Int32} {f_numbers : Nat → Int32} {f_sectors : Nat → Int64} {f_oldest : Int32} {f_newest : Int32} {f_keptNumbers : Nat → Int32} {f_keptSectors : Nat → Int64} {f_kept : Int32} {f_thrown : Int32} {f_head : Nat → Int32} {x1 : Int32} {x2 : Int64} {post : (Int → Int) → Prop} (hw : wpX57_setWide_head post (zF f_head) x1.toInt x2.toInt) :
    Met l yX57_setWide (ws_ yX57_setWide cX57_setWide 4 none) ({ frames := 1, cells := 0, slots := 0, locals := 23 } : Room) (kPc (dC, dI) cl (tX57 d) [.ref (ad 12), .int x1, .long x2] sz (wX57 ci ad d f_count f_runs f_full f_disk f_later f_open f_laid f_places f_changed f_targets f_bytes f_first f_behind f_numbers f_sectors f_oldest f_newest f_keptNumbers f_keptSectors f_kept f_thrown f_head)) (va_Qv (fun (u : (Nat → Int32)) => post (zF (u))) (kB (dC, dI) cl (tX57 d) (va_A (wX57 ci ad d f_count f_runs f_full f_disk f_later f_open f_laid f_places f_changed f_targets f_bytes f_first f_behind f_numbers f_sectors f_oldest f_newest f_keptNumbers f_keptSectors f_kept f_thrown f_head) sz) (fun u : (Nat → Int32) => (wX57 ci ad d f_count f_runs f_full f_disk f_later f_open f_laid f_places f_changed f_targets f_bytes f_first f_behind f_numbers f_sectors f_oldest f_newest f_keptNumbers f_keptSectors f_kept f_thrown (u)))) (va_A (wX57 ci ad d f_count f_runs f_full f_disk f_later f_open f_laid f_places f_changed f_targets f_bytes f_first f_behind f_numbers f_sectors f_oldest f_newest f_keptNumbers f_keptSectors f_kept f_thrown f_head) sz)) 0 0 (va_A (wX57 ci ad d f_count f_runs f_full f_disk f_later f_open f_laid f_places f_changed f_targets f_bytes f_first f_behind f_numbers f_sectors f_oldest f_newest f_keptNumbers f_keptSectors f_kept f_thrown f_head) sz) := by
  refine k_enter (by decide) (Nat.le_of_ble_eq_true rfl) ?_
  intro p e s m below meth c ls X hsz hH hl
  subst hsz
  generalize va_A (wX57 ci ad d f_count f_runs f_full f_disk f_later f_open f_laid f_places f_changed f_targets f_bytes f_first f_behind f_numbers f_sectors f_oldest f_newest f_keptNumbers f_keptSectors f_kept f_thrown f_head) s.heap.size = A at hH ⊢
  have hx := X.1.1
  have hb := X.1.2.1
  have hl : lv_has ls 4 [(0, .ref (ad 12)), (1, .int x1), (2, .long x2)] := hl
  unfold wpX57_setWide_head at hw
  refine lv_aload_n hx hb dX57_setWide_0 rfl (lv_at hl 0 rfl) ?_
  refine lv_iload_n hx hb dX57_setWide_1 rfl (lv_at hl 1 rfl) ?_
  refine lv_lload_n hx hb dX57_setWide_2 rfl (lv_at hl 2 rfl) ?_
  refine lv_bipush (v := 32) hx hb dX57_setWide_3 (by decide) ?_
  refine lv_lshr (v := x2 >>> ((32 : Int32).toInt64 &&& 63)) hx hb dX57_setWide_5 rfl ?_
  have e_1 := zL_shr (rfl : x2.toInt = _) (k := 32) (m := 32) (c := 4294967296) (by decide)
  refine lv_l2i (v := (x2 >>> ((32 : Int32).toInt64 &&& 63)).toInt32) hx hb dX57_setWide_6 rfl ?_
  have e_2 := z_l2i e_1
  refine k_v0 hH (k_runS (As := [.ref (ad 12), .int x1, .int ((x2 >>> ((32 : Int32).toInt64 &&& 63)).toInt32)]) (rest := []) X hH.1 hH.2.1 X.2.2.2 (walkX57_set_head hc (x1 := x1) (x2 := ((x2 >>> ((32 : Int32).toInt64 &&& 63)).toInt32)) (f_count := f_count) (f_runs := f_runs) (f_full := f_full) (f_disk := f_disk) (f_later := f_later) (f_open := f_open) (f_laid := f_laid) (f_places := f_places) (f_changed := f_changed) (f_targets := f_targets) (f_bytes := f_bytes) (f_first := f_first) (f_behind := f_behind) (f_numbers := f_numbers) (f_sectors := f_sectors) (f_oldest := f_oldest) (f_newest := f_newest) (f_keptNumbers := f_keptNumbers) (f_keptSectors := f_keptSectors) (f_kept := f_kept) (f_thrown := f_thrown) (f_head := f_head) (by rw [show ((x2 >>> ((32 : Int32).toInt64 &&& 63)).toInt32 : Int32).toInt = _ from e_2]; exact hw)) (va_cwS 3 X.1.2.2.2.2 gX57_84 rfl rfl rfl hX57_set ⟨Nat.le_of_ble_eq_true rfl, Nat.le_of_ble_eq_true rfl⟩) rfl hl.1 rfl (Nat.le_of_ble_eq_true rfl) dX57_setWide_7 ⟨Nat.le_refl 0, Nat.le_refl 0⟩) (fun u H locs hw hH => ?_)
  obtain ⟨f_head_3, eu⟩ : ∃ z, z = u := ⟨_, rfl⟩
  subst eu
  have hH : kH (dC, dI) cl A s.heap H locs (wX57 ci ad d f_count f_runs f_full f_disk f_later f_open f_laid f_places f_changed f_targets f_bytes f_first f_behind f_numbers f_sectors f_oldest f_newest f_keptNumbers f_keptSectors f_kept f_thrown f_head_3) := hH
  refine lv_aload_n hx hb dX57_setWide_10 rfl (lv_at hl 0 rfl) ?_
  refine lv_iload_n hx hb dX57_setWide_11 rfl (lv_at hl 1 rfl) ?_
  refine lv_iconst (v := 4) hx hb dX57_setWide_12 (by decide) ?_
  refine lv_iadd hx hb dX57_setWide_13 ?_
  have e_4 := z_addw (rfl : x1.toInt = _) (rfl : (4 : Int32).toInt = 4)
  refine lv_lload_n hx hb dX57_setWide_14 rfl (lv_at hl 2 rfl) ?_
  refine lv_l2i (v := x2.toInt32) hx hb dX57_setWide_15 rfl ?_
  have e_5 := z_l2i (rfl : x2.toInt = _)
  refine k_v0 hH (k_runS (As := [.ref (ad 12), .int (x1 + 4), .int (x2.toInt32)]) (rest := []) X hH.1 hH.2.1 X.2.2.2 (walkX57_set_head hc (x1 := (x1 + 4)) (x2 := (x2.toInt32)) (f_count := f_count) (f_runs := f_runs) (f_full := f_full) (f_disk := f_disk) (f_later := f_later) (f_open := f_open) (f_laid := f_laid) (f_places := f_places) (f_changed := f_changed) (f_targets := f_targets) (f_bytes := f_bytes) (f_first := f_first) (f_behind := f_behind) (f_numbers := f_numbers) (f_sectors := f_sectors) (f_oldest := f_oldest) (f_newest := f_newest) (f_keptNumbers := f_keptNumbers) (f_keptSectors := f_keptSectors) (f_kept := f_kept) (f_thrown := f_thrown) (f_head := f_head_3) (by rw [show (x1 + 4 : Int32).toInt = _ from e_4, show (x2.toInt32 : Int32).toInt = _ from e_5]; exact hw)) (va_cwS 3 X.1.2.2.2.2 gX57_84 rfl rfl rfl hX57_set ⟨Nat.le_of_ble_eq_true rfl, Nat.le_of_ble_eq_true rfl⟩) rfl hl.1 rfl (Nat.le_of_ble_eq_true rfl) dX57_setWide_16 ⟨Nat.le_refl 0, Nat.le_refl 0⟩) (fun u H locs hw hH => ?_)
  obtain ⟨f_head_6, eu⟩ : ∃ z, z = u := ⟨_, rfl⟩
  subst eu
  have hH : kH (dC, dI) cl A s.heap H locs (wX57 ci ad d f_count f_runs f_full f_disk f_later f_open f_laid f_places f_changed f_targets f_bytes f_first f_behind f_numbers f_sectors f_oldest f_newest f_keptNumbers f_keptSectors f_kept f_thrown f_head_6) := hH
  exact k_vret X hH (f_head_6) hw rfl dX57_setWide_19
set_option maxHeartbeats 4000000 in
theorem atX57_sum_head_4 {p : Program} {l : Launch} {e : Env} {s : State} {m : MethodId} {args : Array Value} {below : List Frame} {meth : Method} {c : Code} {dC : Nat → ClassId} {dI : Nat → Nat → Nat} {cl : List vw_C} {ci : Nat} (hc : cl[ci]? = some (RX57, TX57, 22)) {ad : Nat → Nat} {d : Nat → ClassId} {A : Nat → Prop} {post : Int → Prop} {f_count : Int32} {f_runs : Int32} {f_full : Int32} {f_disk : Nat → Int32} {f_later : Nat → Int32} {f_open : Nat → Int32} {f_laid : Nat → Int32} {f_places : Nat → Int32} {f_changed : Int32} {f_targets : Nat → Int32} {f_bytes : Nat → Int32} {f_first : Int32} {f_behind : Int32} {f_numbers : Nat → Int32} {f_sectors : Nat → Int64} {f_oldest : Int32} {f_newest : Int32} {f_keptNumbers : Nat → Int32} {f_keptSectors : Nat → Int64} {f_kept : Int32} {f_thrown : Int32} {f_head : Nat → Int32} (X : kX p s m args meth c cX57_sum 5 RX57 (some .int) (dC, dI) cl (tX57 d)) {K43 : Int → Prop} {x1 : Int32}  (hk43 : ∀ (x2 : Int32), K43 x2.toInt → ∀ (H : Heap) (locs : List Loc) (ls : Array Slot), kH (dC, dI) cl A s.heap H locs (wX57 ci ad d f_count f_runs f_full f_disk f_later f_open f_laid f_places f_changed f_targets f_bytes f_first f_behind f_numbers f_sectors f_oldest f_newest f_keptNumbers f_keptSectors f_kept f_thrown f_head) → lv_has ls 5 [(2, .int x2)] → W p l e ({ frames := 0, cells := 0, slots := 0, locals := 0 } : Room) s m args below meth c H locs 0 0 (MQ below (va_Qi (fun (r : Int32) (_ : Unit) => post r.toInt) (kB (dC, dI) cl (tX57 d) A (fun _ : Unit => (wX57 ci ad d f_count f_runs f_full f_disk f_later f_open f_laid f_places f_changed f_targets f_bytes f_first f_behind f_numbers f_sectors f_oldest f_newest f_keptNumbers f_keptSectors f_kept f_thrown f_head))) A) args s 0 0 A) (F0 m 43 ls [])) :
    ∀ (nn : Nat) (x2 : Int32) (x3 : Int32), wX57_sum_head_4 K43 x1.toInt (zF f_head) nn x2.toInt x3.toInt → ∀ (H : Heap) (locs : List Loc) (ls : Array Slot), kH (dC, dI) cl A s.heap H locs (wX57 ci ad d f_count f_runs f_full f_disk f_later f_open f_laid f_places f_changed f_targets f_bytes f_first f_behind f_numbers f_sectors f_oldest f_newest f_keptNumbers f_keptSectors f_kept f_thrown f_head) → lv_has ls 5 [(0, .ref (ad 12)), (1, .int x1), (2, .int x2), (3, .int x3)] → W p l e ({ frames := 0, cells := 0, slots := 0, locals := 0 } : Room) s m args below meth c H locs 0 0 (MQ below (va_Qi (fun (r : Int32) (_ : Unit) => post r.toInt) (kB (dC, dI) cl (tX57 d) A (fun _ : Unit => (wX57 ci ad d f_count f_runs f_full f_disk f_later f_open f_laid f_places f_changed f_targets f_bytes f_first f_behind f_numbers f_sectors f_oldest f_newest f_keptNumbers f_keptSectors f_kept f_thrown f_head))) A) args s 0 0 A) (F0 m 4 ls []) := by
  have hx := X.1.1
  have hb := X.1.2.1
  intro nn
  induction nn with
  | zero =>
    intro x2 x3 hw
    exact False.elim hw
  | succ n ih =>
    intro x2 x3 hw H locs ls hH hl
    rw [wX57_sum_head_4] at hw
    refine lv_iload_n hx hb dX57_sum_4 rfl (lv_at hl 3 rfl) ?_
    refine lv_bipush (v := 32) hx hb dX57_sum_5 (by decide) ?_
    refine lv_icmp_ge (tgt := 43) hx hb dX57_sum_7 (by decide) (fun c_1 => ?_) (fun c_1 => ?_)
    · have hw := hw.1 (z_le (rfl : (32 : Int32).toInt = 32) (rfl : x3.toInt = _) c_1)
      exact hk43 x2 hw _ _ ls hH (lv_sub hl [2] rfl)
    · have hw := hw.2 (z_nle (rfl : (32 : Int32).toInt = 32) (rfl : x3.toInt = _) c_1)
      refine lv_iload_n hx hb dX57_sum_10 rfl (lv_at hl 2 rfl) ?_
      refine lv_aload_n hx hb dX57_sum_11 rfl (lv_at hl 0 rfl) ?_
      refine lv_bipush (v := 32) hx hb dX57_sum_12 (by decide) ?_
      refine lv_iload_n hx hb dX57_sum_14 rfl (lv_at hl 1 rfl) ?_
      refine lv_imul hx hb dX57_sum_15 ?_
      have e_2 := z_mulw (rfl : (32 : Int32).toInt = 32) (rfl : x1.toInt = _)
      refine lv_iload_n hx hb dX57_sum_16 rfl (lv_at hl 3 rfl) ?_
      refine lv_iadd hx hb dX57_sum_17 ?_
      have e_3 := z_addw e_2 (rfl : x3.toInt = _)
      have hq_4 := hw.1
      have hw := hw.2
      refine k_iald X hH 12 11 rfl rfl (z_in e_3 hq_4) dX57_sum_18 ?_
      have e_5 := z_ld (f := f_head) e_3 hq_4.1
      refine lv_ixor hx hb dX57_sum_19 ?_
      have e_6 := z_xor (z_m (rfl : x2.toInt = _)) (z_m e_5)
      refine lv_topi (fun x4_7 ex4_7 => ?_)
      have hw := hw x4_7.toInt (by rw [ex4_7]; exact e_6)
      refine lv_istore (lv' := [(4, .int x4_7), (0, .ref (ad 12)), (1, .int x1), (2, .int x2), (3, .int x3)]) hx hb dX57_sum_20 hl (by decide) rfl (fun ls hl => ?_)
      refine lv_iload hx hb dX57_sum_22 (lv_at hl 0 rfl) ?_
      refine lv_bipush (v := 11) hx hb dX57_sum_24 (by decide) ?_
      refine lv_ishl hx hb dX57_sum_26 ?_
      have e_8 := z_shlw (rfl : x4_7.toInt = _) (k := 11) (m := 11) (c := 2048) (by decide)
      refine lv_iload hx hb dX57_sum_27 (lv_at hl 0 rfl) ?_
      refine lv_bipush (v := 21) hx hb dX57_sum_29 (by decide) ?_
      refine lv_iushr (v := (x4_7.toUInt32 >>> ((21 : Int32).toUInt32 &&& Int32.toUInt32 31)).toInt32) hx hb dX57_sum_31 rfl ?_
      have e_9 := z_ushr (rfl : x4_7.toInt = _) (k := 21) (m := 21) (c := 2097152) (by decide) (by decide)
      refine lv_ior hx hb dX57_sum_32 ?_
      have e_10 := z_or (z_m e_8) (z_m e_9)
      refine lv_ldc (v := (-2048144777)) hx hb X.1.2.2.2.1 (X.1.2.2.2.2 _ q7857) dX57_sum_33 ?_
      refine lv_imul hx hb dX57_sum_35 ?_
      have e_11 := z_mulw e_10 (rfl : ((-2048144777) : Int32).toInt = (-2048144777))
      refine lv_topi (fun x2_12 ex2_12 => ?_)
      have hw := hw x2_12.toInt (by rw [ex2_12]; exact e_11)
      refine lv_istore_n (lv' := [(2, .int x2_12), (4, .int x4_7), (0, .ref (ad 12)), (1, .int x1), (3, .int x3)]) hx hb dX57_sum_36 rfl hl (by decide) rfl (fun ls hl => ?_)
      obtain ⟨x3_13, ex3_13⟩ : ∃ y : Int32, y = x3 + 1 := ⟨_, rfl⟩
      have hw := hw x3_13.toInt (by rw [ex3_13]; exact (z_addw (rfl : x3.toInt = _) (rfl : (1 : Int32).toInt = 1)))
      refine lv_iinc (v := x3_13) (lv' := [(3, .int x3_13), (2, .int x2_12), (4, .int x4_7), (0, .ref (ad 12)), (1, .int x1)]) hx hb dX57_sum_37 hl (k := 4) rfl (by rw [ex3_13]; rfl) (by decide) rfl (fun ls hl => ?_)
      refine lv_goto (tgt := 4) hx hb dX57_sum_40 (by decide) ?_
      exact ih x2_12 x3_13 hw _ _ ls hH (lv_sub hl [3, 4, 1, 0] rfl)
set_option maxHeartbeats 4000000 in
theorem walkX57_sum_head {l : Launch} {dC : Nat → ClassId} {dI : Nat → Nat → Nat} {cl : List vw_C} {ci : Nat} (hc : cl[ci]? = some (RX57, TX57, 22)) {ad : Nat → Nat} {d : Nat → ClassId} {sz : Nat} {f_count : Int32} {f_runs : Int32} {f_full : Int32} {f_disk : Nat → Int32} {f_later : Nat → Int32} {f_open : Nat → Int32} {f_laid : Nat → Int32} {f_places : Nat → Int32} {f_changed : Int32} {f_targets : Nat → Int32} {f_bytes : Nat → Int32} {f_first : Int32} {f_behind : Int32} {f_numbers : Nat → Int32} {f_sectors : Nat → Int64} {f_oldest : Int32} {f_newest : Int32} {f_keptNumbers : Nat → Int32} {f_keptSectors : Nat → Int64} {f_kept : Int32} {f_thrown : Int32} {f_head : Nat → Int32} {x1 : Int32} {post : Int → Prop} (hw : wpX57_sum_head post (zF f_head) x1.toInt) :
    Met l yX57_sum (ws_ yX57_sum cX57_sum 5 (some .int)) ({ frames := 0, cells := 0, slots := 0, locals := 0 } : Room) (kPc (dC, dI) cl (tX57 d) [.ref (ad 12), .int x1] sz (wX57 ci ad d f_count f_runs f_full f_disk f_later f_open f_laid f_places f_changed f_targets f_bytes f_first f_behind f_numbers f_sectors f_oldest f_newest f_keptNumbers f_keptSectors f_kept f_thrown f_head)) (va_Qi (fun (r : Int32) (_ : Unit) => post r.toInt) (kB (dC, dI) cl (tX57 d) (va_A (wX57 ci ad d f_count f_runs f_full f_disk f_later f_open f_laid f_places f_changed f_targets f_bytes f_first f_behind f_numbers f_sectors f_oldest f_newest f_keptNumbers f_keptSectors f_kept f_thrown f_head) sz) (fun _ : Unit => (wX57 ci ad d f_count f_runs f_full f_disk f_later f_open f_laid f_places f_changed f_targets f_bytes f_first f_behind f_numbers f_sectors f_oldest f_newest f_keptNumbers f_keptSectors f_kept f_thrown f_head))) (va_A (wX57 ci ad d f_count f_runs f_full f_disk f_later f_open f_laid f_places f_changed f_targets f_bytes f_first f_behind f_numbers f_sectors f_oldest f_newest f_keptNumbers f_keptSectors f_kept f_thrown f_head) sz)) 0 0 (va_A (wX57 ci ad d f_count f_runs f_full f_disk f_later f_open f_laid f_places f_changed f_targets f_bytes f_first f_behind f_numbers f_sectors f_oldest f_newest f_keptNumbers f_keptSectors f_kept f_thrown f_head) sz) := by
  refine k_enter (by decide) (Nat.le_of_ble_eq_true rfl) ?_
  intro p e s m below meth c ls X hsz hH hl
  subst hsz
  generalize va_A (wX57 ci ad d f_count f_runs f_full f_disk f_later f_open f_laid f_places f_changed f_targets f_bytes f_first f_behind f_numbers f_sectors f_oldest f_newest f_keptNumbers f_keptSectors f_kept f_thrown f_head) s.heap.size = A at hH ⊢
  have hx := X.1.1
  have hb := X.1.2.1
  have hl : lv_has ls 5 [(0, .ref (ad 12)), (1, .int x1)] := hl
  unfold wpX57_sum_head at hw
  refine lv_iconst (v := 0) hx hb dX57_sum_0 (by decide) ?_
  refine lv_istore_n (lv' := [(2, .int 0), (0, .ref (ad 12)), (1, .int x1)]) hx hb dX57_sum_1 rfl hl (by decide) rfl (fun ls hl => ?_)
  refine lv_iconst (v := 4) hx hb dX57_sum_2 (by decide) ?_
  refine lv_istore_n (lv' := [(3, .int 4), (2, .int 0), (0, .ref (ad 12)), (1, .int x1)]) hx hb dX57_sum_3 rfl hl (by decide) rfl (fun ls hl => ?_)
  obtain ⟨fu, hw⟩ := hw
  refine atX57_sum_head_4 hc X ?_ fu 0 4 hw _ _ ls hH (lv_sub hl [2, 3, 1, 0] rfl)
  · intro x2_14 hw H locs ls hH hl
    refine lv_iload_n hx hb dX57_sum_43 rfl (lv_at hl 0 rfl) ?_
    exact k_iret (v := x2_14) X hH () hw rfl rfl dX57_sum_44
set_option maxHeartbeats 4000000 in
theorem walkX57_close_head {l : Launch} {dC : Nat → ClassId} {dI : Nat → Nat → Nat} {cl : List vw_C} {ci : Nat} (hc : cl[ci]? = some (RX57, TX57, 22)) {ad : Nat → Nat} {d : Nat → ClassId} {sz : Nat} {f_count : Int32} {f_runs : Int32} {f_full : Int32} {f_disk : Nat → Int32} {f_later : Nat → Int32} {f_open : Nat → Int32} {f_laid : Nat → Int32} {f_places : Nat → Int32} {f_changed : Int32} {f_targets : Nat → Int32} {f_bytes : Nat → Int32} {f_first : Int32} {f_behind : Int32} {f_numbers : Nat → Int32} {f_sectors : Nat → Int64} {f_oldest : Int32} {f_newest : Int32} {f_keptNumbers : Nat → Int32} {f_keptSectors : Nat → Int64} {f_kept : Int32} {f_thrown : Int32} {f_head : Nat → Int32} {x1 : Int32} {post : (Int → Int) → Prop} (hw : wpX57_close_head post (zF f_head) x1.toInt) :
    Met l yX57_close (ws_ yX57_close cX57_close 2 none) ({ frames := 1, cells := 0, slots := 0, locals := 24 } : Room) (kPc (dC, dI) cl (tX57 d) [.ref (ad 12), .int x1] sz (wX57 ci ad d f_count f_runs f_full f_disk f_later f_open f_laid f_places f_changed f_targets f_bytes f_first f_behind f_numbers f_sectors f_oldest f_newest f_keptNumbers f_keptSectors f_kept f_thrown f_head)) (va_Qv (fun (u : (Nat → Int32)) => post (zF (u))) (kB (dC, dI) cl (tX57 d) (va_A (wX57 ci ad d f_count f_runs f_full f_disk f_later f_open f_laid f_places f_changed f_targets f_bytes f_first f_behind f_numbers f_sectors f_oldest f_newest f_keptNumbers f_keptSectors f_kept f_thrown f_head) sz) (fun u : (Nat → Int32) => (wX57 ci ad d f_count f_runs f_full f_disk f_later f_open f_laid f_places f_changed f_targets f_bytes f_first f_behind f_numbers f_sectors f_oldest f_newest f_keptNumbers f_keptSectors f_kept f_thrown (u)))) (va_A (wX57 ci ad d f_count f_runs f_full f_disk f_later f_open f_laid f_places f_changed f_targets f_bytes f_first f_behind f_numbers f_sectors f_oldest f_newest f_keptNumbers f_keptSectors f_kept f_thrown f_head) sz)) 0 0 (va_A (wX57 ci ad d f_count f_runs f_full f_disk f_later f_open f_laid f_places f_changed f_targets f_bytes f_first f_behind f_numbers f_sectors f_oldest f_newest f_keptNumbers f_keptSectors f_kept f_thrown f_head) sz) := by
  refine k_enter (by decide) (Nat.le_of_ble_eq_true rfl) ?_
  intro p e s m below meth c ls X hsz hH hl
  subst hsz
  generalize va_A (wX57 ci ad d f_count f_runs f_full f_disk f_later f_open f_laid f_places f_changed f_targets f_bytes f_first f_behind f_numbers f_sectors f_oldest f_newest f_keptNumbers f_keptSectors f_kept f_thrown f_head) s.heap.size = A at hH ⊢
  have hx := X.1.1
  have hb := X.1.2.1
  have hl : lv_has ls 2 [(0, .ref (ad 12)), (1, .int x1)] := hl
  unfold wpX57_close_head at hw
  refine lv_aload_n hx hb dX57_close_0 rfl (lv_at hl 0 rfl) ?_
  refine lv_bipush (v := 32) hx hb dX57_close_1 (by decide) ?_
  refine lv_iload_n hx hb dX57_close_3 rfl (lv_at hl 1 rfl) ?_
  refine lv_imul hx hb dX57_close_4 ?_
  have e_1 := z_mul (z_m (rfl : (32 : Int32).toInt = 32)) (z_m (rfl : x1.toInt = _))
  refine lv_aload_n hx hb dX57_close_5 rfl (lv_at hl 0 rfl) ?_
  refine lv_iload_n hx hb dX57_close_6 rfl (lv_at hl 1 rfl) ?_
  refine k_i0 hH (k_runS (As := [.ref (ad 12), .int x1]) (rest := [.int (32 * x1), .ref (ad 12)]) X hH.1 hH.2.1 X.2.2.2 (walkX57_sum_head hc (x1 := x1) (f_count := f_count) (f_runs := f_runs) (f_full := f_full) (f_disk := f_disk) (f_later := f_later) (f_open := f_open) (f_laid := f_laid) (f_places := f_places) (f_changed := f_changed) (f_targets := f_targets) (f_bytes := f_bytes) (f_first := f_first) (f_behind := f_behind) (f_numbers := f_numbers) (f_sectors := f_sectors) (f_oldest := f_oldest) (f_newest := f_newest) (f_keptNumbers := f_keptNumbers) (f_keptSectors := f_keptSectors) (f_kept := f_kept) (f_thrown := f_thrown) (f_head := f_head) hw) (va_cwS 2 X.1.2.2.2.2 gX57_80 rfl rfl rfl hX57_sum ⟨Nat.le_of_ble_eq_true rfl, Nat.le_of_ble_eq_true rfl⟩) rfl hl.1 rfl (Nat.le_of_ble_eq_true rfl) dX57_close_7 ⟨Nat.le_refl 0, Nat.le_refl 0⟩) (fun r_2 _ H locs hw hH => ?_)
  have hH : kH (dC, dI) cl A s.heap H locs (wX57 ci ad d f_count f_runs f_full f_disk f_later f_open f_laid f_places f_changed f_targets f_bytes f_first f_behind f_numbers f_sectors f_oldest f_newest f_keptNumbers f_keptSectors f_kept f_thrown f_head) := hH
  have hq_3 := hw.1
  have hw := hw.2
  have e_4 := z_x e_1 hq_3
  refine k_v0 hH (k_runS (As := [.ref (ad 12), .int (32 * x1), .int r_2]) (rest := []) X hH.1 hH.2.1 X.2.2.2 (walkX57_set_head hc (x1 := (32 * x1)) (x2 := r_2) (f_count := f_count) (f_runs := f_runs) (f_full := f_full) (f_disk := f_disk) (f_later := f_later) (f_open := f_open) (f_laid := f_laid) (f_places := f_places) (f_changed := f_changed) (f_targets := f_targets) (f_bytes := f_bytes) (f_first := f_first) (f_behind := f_behind) (f_numbers := f_numbers) (f_sectors := f_sectors) (f_oldest := f_oldest) (f_newest := f_newest) (f_keptNumbers := f_keptNumbers) (f_keptSectors := f_keptSectors) (f_kept := f_kept) (f_thrown := f_thrown) (f_head := f_head) (by rw [show (32 * x1 : Int32).toInt = _ from e_4]; exact hw)) (va_cwS 3 X.1.2.2.2.2 gX57_84 rfl rfl rfl hX57_set ⟨Nat.le_of_ble_eq_true rfl, Nat.le_of_ble_eq_true rfl⟩) rfl hl.1 rfl (Nat.le_of_ble_eq_true rfl) dX57_close_10 ⟨Nat.le_refl 0, Nat.le_refl 0⟩) (fun u H locs hw hH => ?_)
  obtain ⟨f_head_5, eu⟩ : ∃ z, z = u := ⟨_, rfl⟩
  subst eu
  have hH : kH (dC, dI) cl A s.heap H locs (wX57 ci ad d f_count f_runs f_full f_disk f_later f_open f_laid f_places f_changed f_targets f_bytes f_first f_behind f_numbers f_sectors f_oldest f_newest f_keptNumbers f_keptSectors f_kept f_thrown f_head_5) := hH
  exact k_vret X hH (f_head_5) hw rfl dX57_close_13
set_option maxHeartbeats 4000000 in
theorem atX57_queue_head_13 {p : Program} {l : Launch} {e : Env} {s : State} {m : MethodId} {args : Array Value} {below : List Frame} {meth : Method} {c : Code} {dC : Nat → ClassId} {dI : Nat → Nat → Nat} {cl : List vw_C} {ci : Nat} (hc : cl[ci]? = some (RX57, TX57, 22)) {ad : Nat → Nat} {d : Nat → ClassId} {A : Nat → Prop} {post : (Int → Int) → (Int → Int) → (Int → Int) → Int → Prop} {f_count : Int32} {f_runs : Int32} {f_full : Int32} {f_disk : Nat → Int32} {f_open : Nat → Int32} {f_laid : Nat → Int32} {f_places : Nat → Int32} {f_changed : Int32} {f_first : Int32} {f_numbers : Nat → Int32} {f_sectors : Nat → Int64} {f_oldest : Int32} {f_newest : Int32} {f_keptNumbers : Nat → Int32} {f_keptSectors : Nat → Int64} {f_kept : Int32} {f_thrown : Int32} {f_head : Nat → Int32} (X : kX p s m args meth c cX57_queue 5 RX57 none (dC, dI) cl (tX57 d)) {K71 : (Int → Int) → (Int → Int) → Prop} {x2 : Int32} {x3 : Int32} {f_targets : Nat → Int32} {f_behind : Int32} (hk71 : ∀ (f_later : Nat → Int32) (f_bytes : Nat → Int32), K71 (zF f_later) (zF f_bytes) → ∀ (H : Heap) (locs : List Loc) (ls : Array Slot), kH (dC, dI) cl A s.heap H locs (wX57 ci ad d f_count f_runs f_full f_disk f_later f_open f_laid f_places f_changed f_targets f_bytes f_first f_behind f_numbers f_sectors f_oldest f_newest f_keptNumbers f_keptSectors f_kept f_thrown f_head) → lv_has ls 5 [(0, .ref (ad 0))] → W p l e ({ frames := 0, cells := 0, slots := 0, locals := 0 } : Room) s m args below meth c H locs 0 0 (MQ below (va_Qv (fun (u : (Nat → Int32) × (Nat → Int32) × (Nat → Int32) × Int32) => post (zF (u.1)) (zF (u.2.1)) (zF (u.2.2.1)) (u.2.2.2).toInt) (kB (dC, dI) cl (tX57 d) A (fun u : (Nat → Int32) × (Nat → Int32) × (Nat → Int32) × Int32 => (wX57 ci ad d f_count f_runs f_full f_disk (u.1) f_open f_laid f_places f_changed (u.2.1) (u.2.2.1) f_first (u.2.2.2) f_numbers f_sectors f_oldest f_newest f_keptNumbers f_keptSectors f_kept f_thrown f_head))) A) args s 0 0 A) (F0 m 71 ls [])) :
    ∀ (nn : Nat) (x4 : Int32) (f_later : Nat → Int32) (f_bytes : Nat → Int32), wX57_queue_head_13 K71 x2.toInt x3.toInt f_behind.toInt (zF f_head) nn x4.toInt (zF f_later) (zF f_bytes) → ∀ (H : Heap) (locs : List Loc) (ls : Array Slot), kH (dC, dI) cl A s.heap H locs (wX57 ci ad d f_count f_runs f_full f_disk f_later f_open f_laid f_places f_changed f_targets f_bytes f_first f_behind f_numbers f_sectors f_oldest f_newest f_keptNumbers f_keptSectors f_kept f_thrown f_head) → lv_has ls 5 [(0, .ref (ad 0)), (1, .ref (ad 12)), (2, .int x2), (3, .int x3), (4, .int x4)] → W p l e ({ frames := 0, cells := 0, slots := 0, locals := 0 } : Room) s m args below meth c H locs 0 0 (MQ below (va_Qv (fun (u : (Nat → Int32) × (Nat → Int32) × (Nat → Int32) × Int32) => post (zF (u.1)) (zF (u.2.1)) (zF (u.2.2.1)) (u.2.2.2).toInt) (kB (dC, dI) cl (tX57 d) A (fun u : (Nat → Int32) × (Nat → Int32) × (Nat → Int32) × Int32 => (wX57 ci ad d f_count f_runs f_full f_disk (u.1) f_open f_laid f_places f_changed (u.2.1) (u.2.2.1) f_first (u.2.2.2) f_numbers f_sectors f_oldest f_newest f_keptNumbers f_keptSectors f_kept f_thrown f_head))) A) args s 0 0 A) (F0 m 13 ls []) := by
  have hx := X.1.1
  have hb := X.1.2.1
  intro nn
  induction nn with
  | zero =>
    intro x4 f_later f_bytes hw
    exact False.elim hw
  | succ n ih =>
    intro x4 f_later f_bytes hw H locs ls hH hl
    rw [wX57_queue_head_13] at hw
    refine lv_iload hx hb dX57_queue_13 (lv_at hl 4 rfl) ?_
    refine lv_bipush (v := 32) hx hb dX57_queue_15 (by decide) ?_
    refine lv_icmp_ge (tgt := 71) hx hb dX57_queue_17 (by decide) (fun c_3 => ?_) (fun c_3 => ?_)
    · have hw := hw.1 (z_le (rfl : (32 : Int32).toInt = 32) (rfl : x4.toInt = _) c_3)
      exact hk71 f_later f_bytes hw _ _ ls hH (lv_sub hl [0] rfl)
    · have hw := hw.2 (z_nle (rfl : (32 : Int32).toInt = 32) (rfl : x4.toInt = _) c_3)
      refine lv_aload_n hx hb dX57_queue_20 rfl (lv_at hl 0 rfl) ?_
      refine k_get X hH in_X57 0 rfl hc 10 (by decide) q6800 rfl dX57_queue_21 ?_
      refine lv_bipush (v := 32) hx hb dX57_queue_24 (by decide) ?_
      refine lv_aload_n hx hb dX57_queue_26 rfl (lv_at hl 0 rfl) ?_
      refine k_get X hH in_X57 0 rfl hc 12 (by decide) q6802 rfl dX57_queue_27 ?_
      refine lv_imul hx hb dX57_queue_30 ?_
      have e_4 := z_mul (z_m (rfl : (32 : Int32).toInt = 32)) (z_m (rfl : f_behind.toInt = _))
      refine lv_iload hx hb dX57_queue_31 (lv_at hl 4 rfl) ?_
      refine lv_iadd hx hb dX57_queue_33 ?_
      have e_5 := z_add e_4 (z_m (rfl : x4.toInt = _))
      refine lv_aload_n hx hb dX57_queue_34 rfl (lv_at hl 1 rfl) ?_
      refine lv_bipush (v := 32) hx hb dX57_queue_35 (by decide) ?_
      refine lv_iload_n hx hb dX57_queue_37 rfl (lv_at hl 2 rfl) ?_
      refine lv_imul hx hb dX57_queue_38 ?_
      have e_6 := z_mul (z_m (rfl : (32 : Int32).toInt = 32)) (z_m (rfl : x2.toInt = _))
      refine lv_iload hx hb dX57_queue_39 (lv_at hl 4 rfl) ?_
      refine lv_iadd hx hb dX57_queue_41 ?_
      have e_7 := z_add e_6 (z_m (rfl : x4.toInt = _))
      have hq_8 := hw.1
      have hw := hw.2
      have e_9 := z_xi e_7 hq_8 (by decide)
      refine k_iald X hH 12 11 rfl rfl (z_in e_9 hq_8) dX57_queue_42 ?_
      have e_10 := z_ld (f := f_head) e_9 hq_8.1
      refine lv_topi (fun v_11 ev_11 => ?_)
      have hw := hw v_11.toInt (by rw [ev_11]; exact e_10)
      have hq_13 := hw.1
      have hw := hw.2
      have e_14 := z_xi e_5 hq_13 (by decide)
      obtain ⟨f_bytes_12, ef_bytes_12⟩ : ∃ y : Nat → Int32, y = upd f_bytes ((32 * f_behind) + x4).toNatClampNeg v_11 := ⟨_, rfl⟩
      refine k_iast X hH 7 6 rfl rfl (z_in e_14 hq_13) dX57_queue_43 ef_bytes_12 (ws1 := (wX57 ci ad d f_count f_runs f_full f_disk f_later f_open f_laid f_places f_changed f_targets f_bytes_12 f_first f_behind f_numbers f_sectors f_oldest f_newest f_keptNumbers f_keptSectors f_kept f_thrown f_head)) rfl (fun H locs hH => ?_)
      have hw := hw (zF f_bytes_12) (by rw [ef_bytes_12]; exact z_st (f := f_bytes) e_14 hq_13.1 (rfl : v_11.toInt = _))
      refine lv_aload_n hx hb dX57_queue_44 rfl (lv_at hl 0 rfl) ?_
      refine k_get X hH in_X57 0 rfl hc 4 (by decide) q6794 rfl dX57_queue_45 ?_
      refine lv_bipush (v := 32) hx hb dX57_queue_48 (by decide) ?_
      refine lv_iload_n hx hb dX57_queue_50 rfl (lv_at hl 3 rfl) ?_
      refine lv_imul hx hb dX57_queue_51 ?_
      have e_15 := z_mul (z_m (rfl : (32 : Int32).toInt = 32)) (z_m (rfl : x3.toInt = _))
      refine lv_iload hx hb dX57_queue_52 (lv_at hl 4 rfl) ?_
      refine lv_iadd hx hb dX57_queue_54 ?_
      have e_16 := z_add e_15 (z_m (rfl : x4.toInt = _))
      refine lv_aload_n hx hb dX57_queue_55 rfl (lv_at hl 1 rfl) ?_
      refine lv_bipush (v := 32) hx hb dX57_queue_56 (by decide) ?_
      refine lv_iload_n hx hb dX57_queue_58 rfl (lv_at hl 2 rfl) ?_
      refine lv_imul hx hb dX57_queue_59 ?_
      have e_17 := z_mul (z_m (rfl : (32 : Int32).toInt = 32)) (z_m (rfl : x2.toInt = _))
      refine lv_iload hx hb dX57_queue_60 (lv_at hl 4 rfl) ?_
      refine lv_iadd hx hb dX57_queue_62 ?_
      have e_18 := z_add e_17 (z_m (rfl : x4.toInt = _))
      have e_19 := z_xi e_18 hq_8 (by decide)
      refine k_iald X hH 12 11 rfl rfl (z_in e_19 hq_8) dX57_queue_63 ?_
      have e_20 := z_ld (f := f_head) e_19 hq_8.1
      refine lv_topi (fun v_21 ev_21 => ?_)
      have hw := hw v_21.toInt (by rw [ev_21]; exact e_20)
      have hq_23 := hw.1
      have hw := hw.2
      have e_24 := z_xi e_16 hq_23 (by decide)
      obtain ⟨f_later_22, ef_later_22⟩ : ∃ y : Nat → Int32, y = upd f_later ((32 * x3) + x4).toNatClampNeg v_21 := ⟨_, rfl⟩
      refine k_iast X hH 2 1 rfl rfl (z_in e_24 hq_23) dX57_queue_64 ef_later_22 (ws1 := (wX57 ci ad d f_count f_runs f_full f_disk f_later_22 f_open f_laid f_places f_changed f_targets f_bytes_12 f_first f_behind f_numbers f_sectors f_oldest f_newest f_keptNumbers f_keptSectors f_kept f_thrown f_head)) rfl (fun H locs hH => ?_)
      have hw := hw (zF f_later_22) (by rw [ef_later_22]; exact z_st (f := f_later) e_24 hq_23.1 (rfl : v_21.toInt = _))
      have hq_26 := hw.1
      have hw := hw.2
      obtain ⟨x4_25, ex4_25⟩ : ∃ y : Int32, y = x4 + 1 := ⟨_, rfl⟩
      have hw := hw x4_25.toInt (by rw [ex4_25]; exact (z_x (z_add (z_m (rfl : x4.toInt = _)) (z_m (rfl : (1 : Int32).toInt = 1))) hq_26))
      refine lv_iinc (v := x4_25) (lv' := [(4, .int x4_25), (0, .ref (ad 0)), (1, .ref (ad 12)), (2, .int x2), (3, .int x3)]) hx hb dX57_queue_65 hl (k := 4) rfl (by rw [ex4_25]; rfl) (by decide) rfl (fun ls hl => ?_)
      refine lv_goto (tgt := 13) hx hb dX57_queue_68 (by decide) ?_
      exact ih x4_25 f_later_22 f_bytes_12 hw _ _ ls hH (lv_sub hl [1, 2, 3, 4, 0] rfl)
set_option maxHeartbeats 4000000 in
theorem walkX57_queue_head {l : Launch} {dC : Nat → ClassId} {dI : Nat → Nat → Nat} {cl : List vw_C} {ci : Nat} (hc : cl[ci]? = some (RX57, TX57, 22)) {ad : Nat → Nat} {d : Nat → ClassId} {sz : Nat} {f_count : Int32} {f_runs : Int32} {f_full : Int32} {f_disk : Nat → Int32} {f_later : Nat → Int32} {f_open : Nat → Int32} {f_laid : Nat → Int32} {f_places : Nat → Int32} {f_changed : Int32} {f_targets : Nat → Int32} {f_bytes : Nat → Int32} {f_first : Int32} {f_behind : Int32} {f_numbers : Nat → Int32} {f_sectors : Nat → Int64} {f_oldest : Int32} {f_newest : Int32} {f_keptNumbers : Nat → Int32} {f_keptSectors : Nat → Int64} {f_kept : Int32} {f_thrown : Int32} {f_head : Nat → Int32} {x2 : Int32} {x3 : Int32} {post : (Int → Int) → (Int → Int) → (Int → Int) → Int → Prop} (hw : wpX57_queue_head post (zF f_later) (zF f_targets) (zF f_bytes) f_behind.toInt (zF f_head) x2.toInt x3.toInt) :
    Met l yX57_queue (ws_ yX57_queue cX57_queue 5 none) ({ frames := 0, cells := 0, slots := 0, locals := 0 } : Room) (kPc (dC, dI) cl (tX57 d) [.ref (ad 0), .ref (ad 12), .int x2, .int x3] sz (wX57 ci ad d f_count f_runs f_full f_disk f_later f_open f_laid f_places f_changed f_targets f_bytes f_first f_behind f_numbers f_sectors f_oldest f_newest f_keptNumbers f_keptSectors f_kept f_thrown f_head)) (va_Qv (fun (u : (Nat → Int32) × (Nat → Int32) × (Nat → Int32) × Int32) => post (zF (u.1)) (zF (u.2.1)) (zF (u.2.2.1)) (u.2.2.2).toInt) (kB (dC, dI) cl (tX57 d) (va_A (wX57 ci ad d f_count f_runs f_full f_disk f_later f_open f_laid f_places f_changed f_targets f_bytes f_first f_behind f_numbers f_sectors f_oldest f_newest f_keptNumbers f_keptSectors f_kept f_thrown f_head) sz) (fun u : (Nat → Int32) × (Nat → Int32) × (Nat → Int32) × Int32 => (wX57 ci ad d f_count f_runs f_full f_disk (u.1) f_open f_laid f_places f_changed (u.2.1) (u.2.2.1) f_first (u.2.2.2) f_numbers f_sectors f_oldest f_newest f_keptNumbers f_keptSectors f_kept f_thrown f_head))) (va_A (wX57 ci ad d f_count f_runs f_full f_disk f_later f_open f_laid f_places f_changed f_targets f_bytes f_first f_behind f_numbers f_sectors f_oldest f_newest f_keptNumbers f_keptSectors f_kept f_thrown f_head) sz)) 0 0 (va_A (wX57 ci ad d f_count f_runs f_full f_disk f_later f_open f_laid f_places f_changed f_targets f_bytes f_first f_behind f_numbers f_sectors f_oldest f_newest f_keptNumbers f_keptSectors f_kept f_thrown f_head) sz) := by
  refine k_enter (by decide) (Nat.le_of_ble_eq_true rfl) ?_
  intro p e s m below meth c ls X hsz hH hl
  subst hsz
  generalize va_A (wX57 ci ad d f_count f_runs f_full f_disk f_later f_open f_laid f_places f_changed f_targets f_bytes f_first f_behind f_numbers f_sectors f_oldest f_newest f_keptNumbers f_keptSectors f_kept f_thrown f_head) s.heap.size = A at hH ⊢
  have hx := X.1.1
  have hb := X.1.2.1
  have hl : lv_has ls 5 [(0, .ref (ad 0)), (1, .ref (ad 12)), (2, .int x2), (3, .int x3)] := hl
  unfold wpX57_queue_head at hw
  refine lv_aload_n hx hb dX57_queue_0 rfl (lv_at hl 0 rfl) ?_
  refine k_get X hH in_X57 0 rfl hc 9 (by decide) q6799 rfl dX57_queue_1 ?_
  refine lv_aload_n hx hb dX57_queue_4 rfl (lv_at hl 0 rfl) ?_
  refine k_get X hH in_X57 0 rfl hc 12 (by decide) q6802 rfl dX57_queue_5 ?_
  refine lv_iload_n hx hb dX57_queue_8 rfl (lv_at hl 3 rfl) ?_
  have hq_2 := hw.1
  have hw := hw.2
  obtain ⟨f_targets_1, ef_targets_1⟩ : ∃ y : Nat → Int32, y = upd f_targets f_behind.toNatClampNeg x3 := ⟨_, rfl⟩
  refine k_iast X hH 6 5 rfl rfl (z_in (rfl : f_behind.toInt = _) hq_2) dX57_queue_9 ef_targets_1 (ws1 := (wX57 ci ad d f_count f_runs f_full f_disk f_later f_open f_laid f_places f_changed f_targets_1 f_bytes f_first f_behind f_numbers f_sectors f_oldest f_newest f_keptNumbers f_keptSectors f_kept f_thrown f_head)) rfl (fun H locs hH => ?_)
  have hw := hw (zF f_targets_1) (by rw [ef_targets_1]; exact z_st (f := f_targets) (rfl : f_behind.toInt = _) hq_2.1 (rfl : x3.toInt = _))
  refine lv_iconst (v := 0) hx hb dX57_queue_10 (by decide) ?_
  refine lv_istore (lv' := [(4, .int 0), (0, .ref (ad 0)), (1, .ref (ad 12)), (2, .int x2), (3, .int x3)]) hx hb dX57_queue_11 hl (by decide) rfl (fun ls hl => ?_)
  obtain ⟨fu, hw⟩ := hw
  refine atX57_queue_head_13 hc X ?_ fu 0 f_later f_bytes hw _ _ ls hH (lv_sub hl [1, 2, 3, 4, 0] rfl)
  · intro f_later_27 f_bytes_28 hw H locs ls hH hl
    refine lv_aload_n hx hb dX57_queue_71 rfl (lv_at hl 0 rfl) ?_
    refine lv_dup hx hb dX57_queue_72 rfl ?_
    refine k_get X hH in_X57 0 rfl hc 12 (by decide) q6802 rfl dX57_queue_73 ?_
    refine lv_iconst (v := 1) hx hb dX57_queue_76 (by decide) ?_
    refine lv_iadd hx hb dX57_queue_77 ?_
    have e_29 := z_add (z_m (rfl : f_behind.toInt = _)) (z_m (rfl : (1 : Int32).toInt = 1))
    have hq_30 := hw.1
    have hw := hw.2
    have e_31 := z_x e_29 hq_30
    refine lv_topi (fun f_behind_32 ef_behind_32 => ?_)
    have hw := hw f_behind_32.toInt (by rw [ef_behind_32]; exact e_31)
    refine k_put X hH in_X57 tyX57_ok nmX57 0 rfl hc 12 (by decide) q6802 rfl (ty := .int) rfl rfl rfl (Nat.le_of_ble_eq_true rfl) dX57_queue_78 (ws1 := (wX57 ci ad d f_count f_runs f_full f_disk f_later_27 f_open f_laid f_places f_changed f_targets_1 f_bytes_28 f_first f_behind_32 f_numbers f_sectors f_oldest f_newest f_keptNumbers f_keptSectors f_kept f_thrown f_head)) rfl (fun H locs hH => ?_)
    exact k_vret X hH (f_later_27, f_targets_1, f_bytes_28, f_behind_32) hw rfl dX57_queue_81
set_option maxHeartbeats 4000000 in
theorem atX57_commit_46 {p : Program} {l : Launch} {e : Env} {s : State} {m : MethodId} {args : Array Value} {below : List Frame} {meth : Method} {c : Code} {dC : Nat → ClassId} {dI : Nat → Nat → Nat} {cl : List vw_C} {ci : Nat} (hc : cl[ci]? = some (RX57, TX57, 22)) {ad : Nat → Nat} {d : Nat → ClassId} {A : Nat → Prop} {post : Int → (Int → Int) → (Int → Int) → (Int → Int) → Int → (Int → Int) → (Int → Int) → Int → (Int → Int) → (Int → Int) → Int → (Int → Int) → Prop} {f_count : Int32} {f_runs : Int32} {f_full : Int32} {f_disk : Nat → Int32} {f_places : Nat → Int32} {f_first : Int32} {f_oldest : Int32} {f_keptNumbers : Nat → Int32} {f_keptSectors : Nat → Int64} {f_kept : Int32} {f_thrown : Int32} (X : kX p s m args meth c cX57_commit 7 RX57 (some .int) (dC, dI) cl (tX57 d)) {K112 : (Int → Int) → (Int → Int) → (Int → Int) → (Int → Int) → (Int → Int) → Int → Prop} {x1 : Int32} {x2 : Int32} {f_changed : Int32} {f_numbers : Nat → Int32} {f_sectors : Nat → Int64} {f_newest : Int32} {f_head : Nat → Int32} (hk112 : ∀ (f_later : Nat → Int32) (f_open : Nat → Int32) (f_laid : Nat → Int32) (f_targets : Nat → Int32) (f_bytes : Nat → Int32) (f_behind : Int32), K112 (zF f_later) (zF f_open) (zF f_laid) (zF f_targets) (zF f_bytes) f_behind.toInt → ∀ (H : Heap) (locs : List Loc) (ls : Array Slot), kH (dC, dI) cl A s.heap H locs (wX57 ci ad d f_count f_runs f_full f_disk f_later f_open f_laid f_places f_changed f_targets f_bytes f_first f_behind f_numbers f_sectors f_oldest f_newest f_keptNumbers f_keptSectors f_kept f_thrown f_head) → lv_has ls 7 [(0, .ref (ad 0)), (1, .int x1), (2, .int x2)] → W p l e ({ frames := 2, cells := 0, slots := 0, locals := 46 } : Room) s m args below meth c H locs 0 0 (MQ below (va_Qi (fun (r : Int32) (u : (Nat → Int32) × (Nat → Int32) × (Nat → Int32) × Int32 × (Nat → Int32) × (Nat → Int32) × Int32 × (Nat → Int32) × (Nat → Int64) × Int32 × (Nat → Int32)) => post r.toInt (zF (u.1)) (zF (u.2.1)) (zF (u.2.2.1)) (u.2.2.2.1).toInt (zF (u.2.2.2.2.1)) (zF (u.2.2.2.2.2.1)) (u.2.2.2.2.2.2.1).toInt (zF (u.2.2.2.2.2.2.2.1)) (zG (u.2.2.2.2.2.2.2.2.1)) (u.2.2.2.2.2.2.2.2.2.1).toInt (zF (u.2.2.2.2.2.2.2.2.2.2))) (kB (dC, dI) cl (tX57 d) A (fun u : (Nat → Int32) × (Nat → Int32) × (Nat → Int32) × Int32 × (Nat → Int32) × (Nat → Int32) × Int32 × (Nat → Int32) × (Nat → Int64) × Int32 × (Nat → Int32) => (wX57 ci ad d f_count f_runs f_full f_disk (u.1) (u.2.1) (u.2.2.1) f_places (u.2.2.2.1) (u.2.2.2.2.1) (u.2.2.2.2.2.1) f_first (u.2.2.2.2.2.2.1) (u.2.2.2.2.2.2.2.1) (u.2.2.2.2.2.2.2.2.1) f_oldest (u.2.2.2.2.2.2.2.2.2.1) f_keptNumbers f_keptSectors f_kept f_thrown (u.2.2.2.2.2.2.2.2.2.2)))) A) args s 0 0 A) (F0 m 112 ls [])) :
    ∀ (nn : Nat) (x3 : Int32) (f_later : Nat → Int32) (f_open : Nat → Int32) (f_laid : Nat → Int32) (f_targets : Nat → Int32) (f_bytes : Nat → Int32) (f_behind : Int32), wX57_commit_46 K112 x1.toInt f_count.toInt nn x3.toInt (zF f_later) (zF f_open) (zF f_laid) (zF f_targets) (zF f_bytes) f_behind.toInt → ∀ (H : Heap) (locs : List Loc) (ls : Array Slot), kH (dC, dI) cl A s.heap H locs (wX57 ci ad d f_count f_runs f_full f_disk f_later f_open f_laid f_places f_changed f_targets f_bytes f_first f_behind f_numbers f_sectors f_oldest f_newest f_keptNumbers f_keptSectors f_kept f_thrown f_head) → lv_has ls 7 [(0, .ref (ad 0)), (1, .int x1), (2, .int x2), (3, .int x3)] → W p l e ({ frames := 2, cells := 0, slots := 0, locals := 46 } : Room) s m args below meth c H locs 0 0 (MQ below (va_Qi (fun (r : Int32) (u : (Nat → Int32) × (Nat → Int32) × (Nat → Int32) × Int32 × (Nat → Int32) × (Nat → Int32) × Int32 × (Nat → Int32) × (Nat → Int64) × Int32 × (Nat → Int32)) => post r.toInt (zF (u.1)) (zF (u.2.1)) (zF (u.2.2.1)) (u.2.2.2.1).toInt (zF (u.2.2.2.2.1)) (zF (u.2.2.2.2.2.1)) (u.2.2.2.2.2.2.1).toInt (zF (u.2.2.2.2.2.2.2.1)) (zG (u.2.2.2.2.2.2.2.2.1)) (u.2.2.2.2.2.2.2.2.2.1).toInt (zF (u.2.2.2.2.2.2.2.2.2.2))) (kB (dC, dI) cl (tX57 d) A (fun u : (Nat → Int32) × (Nat → Int32) × (Nat → Int32) × Int32 × (Nat → Int32) × (Nat → Int32) × Int32 × (Nat → Int32) × (Nat → Int64) × Int32 × (Nat → Int32) => (wX57 ci ad d f_count f_runs f_full f_disk (u.1) (u.2.1) (u.2.2.1) f_places (u.2.2.2.1) (u.2.2.2.2.1) (u.2.2.2.2.2.1) f_first (u.2.2.2.2.2.2.1) (u.2.2.2.2.2.2.2.1) (u.2.2.2.2.2.2.2.2.1) f_oldest (u.2.2.2.2.2.2.2.2.2.1) f_keptNumbers f_keptSectors f_kept f_thrown (u.2.2.2.2.2.2.2.2.2.2)))) A) args s 0 0 A) (F0 m 46 ls []) := by
  have hx := X.1.1
  have hb := X.1.2.1
  intro nn
  induction nn with
  | zero =>
    intro x3 f_later f_open f_laid f_targets f_bytes f_behind hw
    exact False.elim hw
  | succ n ih =>
    intro x3 f_later f_open f_laid f_targets f_bytes f_behind hw H locs ls hH hl
    rw [wX57_commit_46] at hw
    refine lv_iload_n hx hb dX57_commit_46 rfl (lv_at hl 3 rfl) ?_
    refine lv_aload_n hx hb dX57_commit_47 rfl (lv_at hl 0 rfl) ?_
    refine k_get X hH in_X57 0 rfl hc 0 (by decide) q6790 rfl dX57_commit_48 ?_
    refine lv_icmp_ge (tgt := 112) hx hb dX57_commit_51 (by decide) (fun c_7 => ?_) (fun c_7 => ?_)
    · have hw := hw.1 (z_le (rfl : f_count.toInt = _) (rfl : x3.toInt = _) c_7)
      exact hk112 f_later f_open f_laid f_targets f_bytes f_behind hw _ _ ls hH (lv_sub hl [0, 1, 2] rfl)
    · have hw := hw.2 (z_nle (rfl : f_count.toInt = _) (rfl : x3.toInt = _) c_7)
      refine lv_aload_n hx hb dX57_commit_54 rfl (lv_at hl 0 rfl) ?_
      refine k_get X hH in_X57 0 rfl hc 6 (by decide) q6796 rfl dX57_commit_55 ?_
      refine lv_iload_n hx hb dX57_commit_58 rfl (lv_at hl 3 rfl) ?_
      have hq_8 := hw.1
      have hw := hw.2
      refine k_zald X hH 4 3 rfl rfl (z_in (rfl : x3.toInt = _) hq_8) dX57_commit_59 ?_
      have e_9 := z_ld (f := f_laid) (rfl : x3.toInt = _) hq_8.1
      refine lv_if_ne (tgt := 66) hx hb dX57_commit_60 (by decide) (fun c_10 => ?_) (fun c_10 => ?_)
      · have hw := hw.2 (z_ne e_9 (rfl : (0 : Int32).toInt = 0) c_10)
        refine lv_aload_n hx hb dX57_commit_66 rfl (lv_at hl 0 rfl) ?_
        refine k_get X hH in_X57 0 rfl hc 5 (by decide) q6795 rfl dX57_commit_67 ?_
        refine lv_bipush (v := 32) hx hb dX57_commit_70 (by decide) ?_
        refine lv_iload_n hx hb dX57_commit_72 rfl (lv_at hl 3 rfl) ?_
        refine lv_imul hx hb dX57_commit_73 ?_
        have e_11 := z_mul (z_m (rfl : (32 : Int32).toInt = 32)) (z_m (rfl : x3.toInt = _))
        refine lv_bipush (v := 16) hx hb dX57_commit_74 (by decide) ?_
        refine lv_iadd hx hb dX57_commit_76 ?_
        have e_12 := z_add e_11 (z_m (rfl : (16 : Int32).toInt = 16))
        refine lv_iload_n hx hb dX57_commit_77 rfl (lv_at hl 1 rfl) ?_
        have hq_13 := hw.1
        have hw := hw.2
        have e_14 := z_x e_12 hq_13
        refine k_v0 hH (k_runS (As := [.ref (ad 3), .int ((32 * x3) + 16), .int x1]) (rest := []) X hH.1 hH.2.1 X.2.2.2 (walkX57_set_open hc (x1 := ((32 * x3) + 16)) (x2 := x1) (f_count := f_count) (f_runs := f_runs) (f_full := f_full) (f_disk := f_disk) (f_later := f_later) (f_open := f_open) (f_laid := f_laid) (f_places := f_places) (f_changed := f_changed) (f_targets := f_targets) (f_bytes := f_bytes) (f_first := f_first) (f_behind := f_behind) (f_numbers := f_numbers) (f_sectors := f_sectors) (f_oldest := f_oldest) (f_newest := f_newest) (f_keptNumbers := f_keptNumbers) (f_keptSectors := f_keptSectors) (f_kept := f_kept) (f_thrown := f_thrown) (f_head := f_head) (by rw [show ((32 * x3) + 16 : Int32).toInt = _ from e_14]; exact hw)) (va_cwS 3 X.1.2.2.2.2 gX57_84 rfl rfl rfl hX57_set ⟨Nat.le_of_ble_eq_true rfl, Nat.le_of_ble_eq_true rfl⟩) rfl hl.1 rfl (Nat.le_of_ble_eq_true rfl) dX57_commit_78 ⟨Nat.le_refl 0, Nat.le_refl 0⟩) (fun u H locs hw hH => ?_)
        obtain ⟨f_open_15, eu⟩ : ∃ z, z = u := ⟨_, rfl⟩
        subst eu
        have hH : kH (dC, dI) cl A s.heap H locs (wX57 ci ad d f_count f_runs f_full f_disk f_later f_open_15 f_laid f_places f_changed f_targets f_bytes f_first f_behind f_numbers f_sectors f_oldest f_newest f_keptNumbers f_keptSectors f_kept f_thrown f_head) := hH
        refine lv_aload_n hx hb dX57_commit_81 rfl (lv_at hl 0 rfl) ?_
        refine k_get X hH in_X57 0 rfl hc 5 (by decide) q6795 rfl dX57_commit_82 ?_
        refine lv_iload_n hx hb dX57_commit_85 rfl (lv_at hl 3 rfl) ?_
        refine k_v0 hH (k_runS (As := [.ref (ad 3), .int x3]) (rest := []) X hH.1 hH.2.1 X.2.2.2 (walkX57_close_open hc (x1 := x3) (f_count := f_count) (f_runs := f_runs) (f_full := f_full) (f_disk := f_disk) (f_later := f_later) (f_open := f_open_15) (f_laid := f_laid) (f_places := f_places) (f_changed := f_changed) (f_targets := f_targets) (f_bytes := f_bytes) (f_first := f_first) (f_behind := f_behind) (f_numbers := f_numbers) (f_sectors := f_sectors) (f_oldest := f_oldest) (f_newest := f_newest) (f_keptNumbers := f_keptNumbers) (f_keptSectors := f_keptSectors) (f_kept := f_kept) (f_thrown := f_thrown) (f_head := f_head) hw) (va_cwS 2 X.1.2.2.2.2 gX57_124 rfl rfl rfl hX57_close ⟨Nat.le_of_ble_eq_true rfl, Nat.le_of_ble_eq_true rfl⟩) rfl hl.1 rfl (Nat.le_of_ble_eq_true rfl) dX57_commit_86 ⟨Nat.le_refl 0, Nat.le_refl 0⟩) (fun u H locs hw hH => ?_)
        obtain ⟨f_open_16, eu⟩ : ∃ z, z = u := ⟨_, rfl⟩
        subst eu
        have hH : kH (dC, dI) cl A s.heap H locs (wX57 ci ad d f_count f_runs f_full f_disk f_later f_open_16 f_laid f_places f_changed f_targets f_bytes f_first f_behind f_numbers f_sectors f_oldest f_newest f_keptNumbers f_keptSectors f_kept f_thrown f_head) := hH
        refine lv_aload_n hx hb dX57_commit_89 rfl (lv_at hl 0 rfl) ?_
        refine k_get X hH in_X57 0 rfl hc 6 (by decide) q6796 rfl dX57_commit_90 ?_
        refine lv_iload_n hx hb dX57_commit_93 rfl (lv_at hl 3 rfl) ?_
        refine lv_iconst (v := 0) hx hb dX57_commit_94 (by decide) ?_
        obtain ⟨f_laid_17, ef_laid_17⟩ : ∃ y : Nat → Int32, y = upd f_laid x3.toNatClampNeg (vp_nar .boolean 0) := ⟨_, rfl⟩
        refine k_zast X hH 4 3 rfl rfl (z_in (rfl : x3.toInt = _) hq_8) dX57_commit_95 ef_laid_17 (ws1 := (wX57 ci ad d f_count f_runs f_full f_disk f_later f_open_16 f_laid_17 f_places f_changed f_targets f_bytes f_first f_behind f_numbers f_sectors f_oldest f_newest f_keptNumbers f_keptSectors f_kept f_thrown f_head)) rfl (fun H locs hH => ?_)
        have hw := hw (zF f_laid_17) (by rw [ef_laid_17]; exact z_st (f := f_laid) (rfl : x3.toInt = _) hq_8.1 (z_narZ (rfl : (0 : Int32).toInt = 0) (by decide)))
        refine lv_aload_n hx hb dX57_commit_96 rfl (lv_at hl 0 rfl) ?_
        refine lv_aload_n hx hb dX57_commit_97 rfl (lv_at hl 0 rfl) ?_
        refine k_get X hH in_X57 0 rfl hc 5 (by decide) q6795 rfl dX57_commit_98 ?_
        refine lv_iload_n hx hb dX57_commit_101 rfl (lv_at hl 3 rfl) ?_
        refine lv_iload_n hx hb dX57_commit_102 rfl (lv_at hl 3 rfl) ?_
        refine k_v0 hH (k_runV (As := [.ref (ad 3), .int x3, .int x3]) (rest := []) X hH.1 hH.2.1 X.2.2.2 (walkX57_queue_open hc (x2 := x3) (x3 := x3) (f_count := f_count) (f_runs := f_runs) (f_full := f_full) (f_disk := f_disk) (f_later := f_later) (f_open := f_open_16) (f_laid := f_laid_17) (f_places := f_places) (f_changed := f_changed) (f_targets := f_targets) (f_bytes := f_bytes) (f_first := f_first) (f_behind := f_behind) (f_numbers := f_numbers) (f_sectors := f_sectors) (f_oldest := f_oldest) (f_newest := f_newest) (f_keptNumbers := f_keptNumbers) (f_keptSectors := f_keptSectors) (f_kept := f_kept) (f_thrown := f_thrown) (f_head := f_head) hw) (cwV 3 X.1.2.2.2.2 gX57_155 rfl rfl rfl hX57_queue ⟨Nat.le_of_ble_eq_true rfl, Nat.le_of_ble_eq_true rfl⟩) hc (q0 := 0) rfl rfl hl.1 rfl (Nat.le_of_ble_eq_true rfl) dX57_commit_103 ⟨Nat.le_refl 0, Nat.le_refl 0⟩) (fun u H locs hw hH => ?_)
        obtain ⟨f_later_18, f_targets_19, f_bytes_20, f_behind_21⟩ := u
        have hH : kH (dC, dI) cl A s.heap H locs (wX57 ci ad d f_count f_runs f_full f_disk f_later_18 f_open_16 f_laid_17 f_places f_changed f_targets_19 f_bytes_20 f_first f_behind_21 f_numbers f_sectors f_oldest f_newest f_keptNumbers f_keptSectors f_kept f_thrown f_head) := hH
        have hq_23 := hw.1
        have hw := hw.2
        obtain ⟨x3_22, ex3_22⟩ : ∃ y : Int32, y = x3 + 1 := ⟨_, rfl⟩
        have hw := hw x3_22.toInt (by rw [ex3_22]; exact (z_x (z_add (z_m (rfl : x3.toInt = _)) (z_m (rfl : (1 : Int32).toInt = 1))) hq_23))
        refine lv_iinc (v := x3_22) (lv' := [(3, .int x3_22), (0, .ref (ad 0)), (1, .int x1), (2, .int x2)]) hx hb dX57_commit_106 hl (k := 3) rfl (by rw [ex3_22]; rfl) (by decide) rfl (fun ls hl => ?_)
        refine lv_goto (tgt := 46) hx hb dX57_commit_109 (by decide) ?_
        exact ih x3_22 f_later_18 f_open_16 f_laid_17 f_targets_19 f_bytes_20 f_behind_21 hw _ _ ls hH (lv_sub hl [1, 2, 3, 0] rfl)
      · have hw := hw.1 (z_eq e_9 (rfl : (0 : Int32).toInt = 0) c_10)
        refine lv_goto (tgt := 106) hx hb dX57_commit_63 (by decide) ?_
        have hq_25 := hw.1
        have hw := hw.2
        obtain ⟨x3_24, ex3_24⟩ : ∃ y : Int32, y = x3 + 1 := ⟨_, rfl⟩
        have hw := hw x3_24.toInt (by rw [ex3_24]; exact (z_x (z_add (z_m (rfl : x3.toInt = _)) (z_m (rfl : (1 : Int32).toInt = 1))) hq_25))
        refine lv_iinc (v := x3_24) (lv' := [(3, .int x3_24), (0, .ref (ad 0)), (1, .int x1), (2, .int x2)]) hx hb dX57_commit_106 hl (k := 3) rfl (by rw [ex3_24]; rfl) (by decide) rfl (fun ls hl => ?_)
        refine lv_goto (tgt := 46) hx hb dX57_commit_109 (by decide) ?_
        exact ih x3_24 f_later f_open f_laid f_targets f_bytes f_behind hw _ _ ls hH (lv_sub hl [1, 2, 3, 0] rfl)
set_option maxHeartbeats 4000000 in
theorem atX57_commit_120 {p : Program} {l : Launch} {e : Env} {s : State} {m : MethodId} {args : Array Value} {below : List Frame} {meth : Method} {c : Code} {dC : Nat → ClassId} {dI : Nat → Nat → Nat} {cl : List vw_C} {ci : Nat} (hc : cl[ci]? = some (RX57, TX57, 22)) {ad : Nat → Nat} {d : Nat → ClassId} {A : Nat → Prop} {post : Int → (Int → Int) → (Int → Int) → (Int → Int) → Int → (Int → Int) → (Int → Int) → Int → (Int → Int) → (Int → Int) → Int → (Int → Int) → Prop} {f_count : Int32} {f_runs : Int32} {f_full : Int32} {f_disk : Nat → Int32} {f_places : Nat → Int32} {f_first : Int32} {f_oldest : Int32} {f_keptNumbers : Nat → Int32} {f_keptSectors : Nat → Int64} {f_kept : Int32} {f_thrown : Int32} (X : kX p s m args meth c cX57_commit 7 RX57 (some .int) (dC, dI) cl (tX57 d)) {K171 : Int → Int → Prop} {x1 : Int32} {x2 : Int32} {f_later : Nat → Int32} {f_open : Nat → Int32} {f_laid : Nat → Int32} {f_changed : Int32} {f_targets : Nat → Int32} {f_bytes : Nat → Int32} {f_behind : Int32} {f_numbers : Nat → Int32} {f_sectors : Nat → Int64} {f_newest : Int32} {f_head : Nat → Int32} (hk171 : ∀ (x3 : Int64) (x5 : Int32), K171 x3.toInt x5.toInt → ∀ (H : Heap) (locs : List Loc) (ls : Array Slot), kH (dC, dI) cl A s.heap H locs (wX57 ci ad d f_count f_runs f_full f_disk f_later f_open f_laid f_places f_changed f_targets f_bytes f_first f_behind f_numbers f_sectors f_oldest f_newest f_keptNumbers f_keptSectors f_kept f_thrown f_head) → lv_has ls 7 [(0, .ref (ad 0)), (1, .int x1), (2, .int x2), (3, .long x3), (5, .int x5)] → W p l e ({ frames := 2, cells := 0, slots := 0, locals := 46 } : Room) s m args below meth c H locs 0 0 (MQ below (va_Qi (fun (r : Int32) (u : (Nat → Int32) × (Nat → Int32) × (Nat → Int32) × Int32 × (Nat → Int32) × (Nat → Int32) × Int32 × (Nat → Int32) × (Nat → Int64) × Int32 × (Nat → Int32)) => post r.toInt (zF (u.1)) (zF (u.2.1)) (zF (u.2.2.1)) (u.2.2.2.1).toInt (zF (u.2.2.2.2.1)) (zF (u.2.2.2.2.2.1)) (u.2.2.2.2.2.2.1).toInt (zF (u.2.2.2.2.2.2.2.1)) (zG (u.2.2.2.2.2.2.2.2.1)) (u.2.2.2.2.2.2.2.2.2.1).toInt (zF (u.2.2.2.2.2.2.2.2.2.2))) (kB (dC, dI) cl (tX57 d) A (fun u : (Nat → Int32) × (Nat → Int32) × (Nat → Int32) × Int32 × (Nat → Int32) × (Nat → Int32) × Int32 × (Nat → Int32) × (Nat → Int64) × Int32 × (Nat → Int32) => (wX57 ci ad d f_count f_runs f_full f_disk (u.1) (u.2.1) (u.2.2.1) f_places (u.2.2.2.1) (u.2.2.2.2.1) (u.2.2.2.2.2.1) f_first (u.2.2.2.2.2.2.1) (u.2.2.2.2.2.2.2.1) (u.2.2.2.2.2.2.2.2.1) f_oldest (u.2.2.2.2.2.2.2.2.2.1) f_keptNumbers f_keptSectors f_kept f_thrown (u.2.2.2.2.2.2.2.2.2.2)))) A) args s 0 0 A) (F0 m 171 ls [])) :
    ∀ (nn : Nat) (x3 : Int64) (x5 : Int32) (x6 : Int32), wX57_commit_120 K171 f_count.toInt (zF f_later) (zF f_places) nn x3.toInt x5.toInt x6.toInt → ∀ (H : Heap) (locs : List Loc) (ls : Array Slot), kH (dC, dI) cl A s.heap H locs (wX57 ci ad d f_count f_runs f_full f_disk f_later f_open f_laid f_places f_changed f_targets f_bytes f_first f_behind f_numbers f_sectors f_oldest f_newest f_keptNumbers f_keptSectors f_kept f_thrown f_head) → lv_has ls 7 [(0, .ref (ad 0)), (1, .int x1), (2, .int x2), (3, .long x3), (5, .int x5), (6, .int x6)] → W p l e ({ frames := 2, cells := 0, slots := 0, locals := 46 } : Room) s m args below meth c H locs 0 0 (MQ below (va_Qi (fun (r : Int32) (u : (Nat → Int32) × (Nat → Int32) × (Nat → Int32) × Int32 × (Nat → Int32) × (Nat → Int32) × Int32 × (Nat → Int32) × (Nat → Int64) × Int32 × (Nat → Int32)) => post r.toInt (zF (u.1)) (zF (u.2.1)) (zF (u.2.2.1)) (u.2.2.2.1).toInt (zF (u.2.2.2.2.1)) (zF (u.2.2.2.2.2.1)) (u.2.2.2.2.2.2.1).toInt (zF (u.2.2.2.2.2.2.2.1)) (zG (u.2.2.2.2.2.2.2.2.1)) (u.2.2.2.2.2.2.2.2.2.1).toInt (zF (u.2.2.2.2.2.2.2.2.2.2))) (kB (dC, dI) cl (tX57 d) A (fun u : (Nat → Int32) × (Nat → Int32) × (Nat → Int32) × Int32 × (Nat → Int32) × (Nat → Int32) × Int32 × (Nat → Int32) × (Nat → Int64) × Int32 × (Nat → Int32) => (wX57 ci ad d f_count f_runs f_full f_disk (u.1) (u.2.1) (u.2.2.1) f_places (u.2.2.2.1) (u.2.2.2.2.1) (u.2.2.2.2.2.1) f_first (u.2.2.2.2.2.2.1) (u.2.2.2.2.2.2.2.1) (u.2.2.2.2.2.2.2.2.1) f_oldest (u.2.2.2.2.2.2.2.2.2.1) f_keptNumbers f_keptSectors f_kept f_thrown (u.2.2.2.2.2.2.2.2.2.2)))) A) args s 0 0 A) (F0 m 120 ls []) := by
  have hx := X.1.1
  have hb := X.1.2.1
  intro nn
  induction nn with
  | zero =>
    intro x3 x5 x6 hw
    exact False.elim hw
  | succ n ih =>
    intro x3 x5 x6 hw H locs ls hH hl
    rw [wX57_commit_120] at hw
    refine lv_iload hx hb dX57_commit_120 (lv_at hl 5 rfl) ?_
    refine lv_aload_n hx hb dX57_commit_122 rfl (lv_at hl 0 rfl) ?_
    refine k_get X hH in_X57 0 rfl hc 0 (by decide) q6790 rfl dX57_commit_123 ?_
    refine lv_icmp_ge (tgt := 171) hx hb dX57_commit_126 (by decide) (fun c_32 => ?_) (fun c_32 => ?_)
    · have hw := hw.1 (z_le (rfl : f_count.toInt = _) (rfl : x6.toInt = _) c_32)
      exact hk171 x3 x5 hw _ _ ls hH (lv_sub hl [0, 1, 2, 3, 4] rfl)
    · have hw := hw.2 (z_nle (rfl : f_count.toInt = _) (rfl : x6.toInt = _) c_32)
      refine lv_aload_n hx hb dX57_commit_129 rfl (lv_at hl 0 rfl) ?_
      refine lv_iload hx hb dX57_commit_130 (lv_at hl 5 rfl) ?_
      refine k_i0 hH (k_runV (As := [.int x6]) (rest := []) X hH.1 hH.2.1 X.2.2.2 (walkX57_isOpen hc (x1 := x6) (f_count := f_count) (f_runs := f_runs) (f_full := f_full) (f_disk := f_disk) (f_later := f_later) (f_open := f_open) (f_laid := f_laid) (f_places := f_places) (f_changed := f_changed) (f_targets := f_targets) (f_bytes := f_bytes) (f_first := f_first) (f_behind := f_behind) (f_numbers := f_numbers) (f_sectors := f_sectors) (f_oldest := f_oldest) (f_newest := f_newest) (f_keptNumbers := f_keptNumbers) (f_keptSectors := f_keptSectors) (f_kept := f_kept) (f_thrown := f_thrown) (f_head := f_head) hw) (cwV 1 X.1.2.2.2.2 gX57_101 rfl rfl rfl hX57_isOpen ⟨Nat.le_of_ble_eq_true rfl, Nat.le_of_ble_eq_true rfl⟩) hc (q0 := 0) rfl rfl hl.1 rfl (Nat.le_of_ble_eq_true rfl) dX57_commit_132 ⟨Nat.le_refl 0, Nat.le_refl 0⟩) (fun r_33 _ H locs hw hH => ?_)
      have hH : kH (dC, dI) cl A s.heap H locs (wX57 ci ad d f_count f_runs f_full f_disk f_later f_open f_laid f_places f_changed f_targets f_bytes f_first f_behind f_numbers f_sectors f_oldest f_newest f_keptNumbers f_keptSectors f_kept f_thrown f_head) := hH
      refine lv_if_ne (tgt := 141) hx hb dX57_commit_135 (by decide) (fun c_34 => ?_) (fun c_34 => ?_)
      · have hw := hw.2 (z_ne (rfl : r_33.toInt = _) (rfl : (0 : Int32).toInt = 0) c_34)
        refine lv_lload_n hx hb dX57_commit_141 rfl (lv_at hl 3 rfl) ?_
        refine lv_lconst (v := 1) hx hb dX57_commit_142 (by decide) ?_
        refine lv_iload hx hb dX57_commit_143 (lv_at hl 5 rfl) ?_
        refine lv_lshl (v := (1 : Int64) <<< (x6.toInt64 &&& 63)) hx hb dX57_commit_145 rfl ?_
        have e_35 := zL_shlG (rfl : (1 : Int64).toInt = 1) (rfl : x6.toInt = _)
        refine lv_lor hx hb dX57_commit_146 ?_
        have e_36 := zL_or (zL_m (rfl : x3.toInt = _)) (zL_m e_35)
        refine lv_topl (fun x3_37 ex3_37 => ?_)
        have hw := hw x3_37.toInt (by rw [ex3_37]; exact e_36)
        refine lv_lstore_n (lv' := [(3, .long x3_37), (0, .ref (ad 0)), (1, .int x1), (2, .int x2), (5, .int x5), (6, .int x6)]) hx hb dX57_commit_147 rfl hl (by decide) rfl (fun ls hl => ?_)
        refine lv_iload hx hb dX57_commit_148 (lv_at hl 4 rfl) ?_
        refine lv_aload_n hx hb dX57_commit_150 rfl (lv_at hl 1 rfl) ?_
        refine k_get X hH in_X57 0 rfl hc 4 (by decide) q6794 rfl dX57_commit_151 ?_
        refine lv_bipush (v := 32) hx hb dX57_commit_154 (by decide) ?_
        refine lv_iload hx hb dX57_commit_156 (lv_at hl 5 rfl) ?_
        refine lv_imul hx hb dX57_commit_158 ?_
        have e_38 := z_mul (z_m (rfl : (32 : Int32).toInt = 32)) (z_m (rfl : x6.toInt = _))
        have hq_39 := hw.1
        have hw := hw.2
        have e_40 := z_x e_38 hq_39
        refine k_i0 hH (k_runS (As := [.ref (ad 2), .int (32 * x6)]) (rest := [.int x5]) X hH.1 hH.2.1 X.2.2.2 (walkX57_number_later hc (x1 := (32 * x6)) (f_count := f_count) (f_runs := f_runs) (f_full := f_full) (f_disk := f_disk) (f_later := f_later) (f_open := f_open) (f_laid := f_laid) (f_places := f_places) (f_changed := f_changed) (f_targets := f_targets) (f_bytes := f_bytes) (f_first := f_first) (f_behind := f_behind) (f_numbers := f_numbers) (f_sectors := f_sectors) (f_oldest := f_oldest) (f_newest := f_newest) (f_keptNumbers := f_keptNumbers) (f_keptSectors := f_keptSectors) (f_kept := f_kept) (f_thrown := f_thrown) (f_head := f_head) (by rw [show (32 * x6 : Int32).toInt = _ from e_40]; exact hw)) (va_cwS 2 X.1.2.2.2.2 gX57_88 rfl rfl rfl hX57_number ⟨Nat.le_of_ble_eq_true rfl, Nat.le_of_ble_eq_true rfl⟩) rfl hl.1 rfl (Nat.le_of_ble_eq_true rfl) dX57_commit_159 ⟨Nat.le_refl 0, Nat.le_refl 0⟩) (fun r_41 _ H locs hw hH => ?_)
        have hH : kH (dC, dI) cl A s.heap H locs (wX57 ci ad d f_count f_runs f_full f_disk f_later f_open f_laid f_places f_changed f_targets f_bytes f_first f_behind f_numbers f_sectors f_oldest f_newest f_keptNumbers f_keptSectors f_kept f_thrown f_head) := hH
        refine lv_ixor hx hb dX57_commit_162 ?_
        have e_42 := z_xor (z_m (rfl : x5.toInt = _)) (z_m (rfl : r_41.toInt = _))
        refine lv_topi (fun x5_43 ex5_43 => ?_)
        have hw := hw x5_43.toInt (by rw [ex5_43]; exact e_42)
        refine lv_istore (lv' := [(5, .int x5_43), (3, .long x3_37), (0, .ref (ad 0)), (1, .int x1), (2, .int x2), (6, .int x6)]) hx hb dX57_commit_163 hl (by decide) rfl (fun ls hl => ?_)
        have hq_45 := hw.1
        have hw := hw.2
        obtain ⟨x6_44, ex6_44⟩ : ∃ y : Int32, y = x6 + 1 := ⟨_, rfl⟩
        have hw := hw x6_44.toInt (by rw [ex6_44]; exact (z_x (z_add (z_m (rfl : x6.toInt = _)) (z_m (rfl : (1 : Int32).toInt = 1))) hq_45))
        refine lv_iinc (v := x6_44) (lv' := [(6, .int x6_44), (5, .int x5_43), (3, .long x3_37), (0, .ref (ad 0)), (1, .int x1), (2, .int x2)]) hx hb dX57_commit_165 hl (k := 5) rfl (by rw [ex6_44]; rfl) (by decide) rfl (fun ls hl => ?_)
        refine lv_goto (tgt := 120) hx hb dX57_commit_168 (by decide) ?_
        exact ih x3_37 x5_43 x6_44 hw _ _ ls hH (lv_sub hl [3, 4, 5, 2, 1, 0] rfl)
      · have hw := hw.1 (z_eq (rfl : r_33.toInt = _) (rfl : (0 : Int32).toInt = 0) c_34)
        refine lv_goto (tgt := 165) hx hb dX57_commit_138 (by decide) ?_
        have hq_47 := hw.1
        have hw := hw.2
        obtain ⟨x6_46, ex6_46⟩ : ∃ y : Int32, y = x6 + 1 := ⟨_, rfl⟩
        have hw := hw x6_46.toInt (by rw [ex6_46]; exact (z_x (z_add (z_m (rfl : x6.toInt = _)) (z_m (rfl : (1 : Int32).toInt = 1))) hq_47))
        refine lv_iinc (v := x6_46) (lv' := [(6, .int x6_46), (0, .ref (ad 0)), (1, .int x1), (2, .int x2), (3, .long x3), (5, .int x5)]) hx hb dX57_commit_165 hl (k := 5) rfl (by rw [ex6_46]; rfl) (by decide) rfl (fun ls hl => ?_)
        refine lv_goto (tgt := 120) hx hb dX57_commit_168 (by decide) ?_
        exact ih x3 x5 x6_46 hw _ _ ls hH (lv_sub hl [1, 2, 3, 4, 5, 0] rfl)
set_option maxHeartbeats 4000000 in
theorem atX57_commit_174 {p : Program} {l : Launch} {e : Env} {s : State} {m : MethodId} {args : Array Value} {below : List Frame} {meth : Method} {c : Code} {dC : Nat → ClassId} {dI : Nat → Nat → Nat} {cl : List vw_C} {ci : Nat} (hc : cl[ci]? = some (RX57, TX57, 22)) {ad : Nat → Nat} {d : Nat → ClassId} {A : Nat → Prop} {post : Int → (Int → Int) → (Int → Int) → (Int → Int) → Int → (Int → Int) → (Int → Int) → Int → (Int → Int) → (Int → Int) → Int → (Int → Int) → Prop} {f_count : Int32} {f_runs : Int32} {f_full : Int32} {f_disk : Nat → Int32} {f_places : Nat → Int32} {f_first : Int32} {f_oldest : Int32} {f_keptNumbers : Nat → Int32} {f_keptSectors : Nat → Int64} {f_kept : Int32} {f_thrown : Int32} (X : kX p s m args meth c cX57_commit 7 RX57 (some .int) (dC, dI) cl (tX57 d)) {K195 : (Int → Int) → Prop} {x1 : Int32} {x2 : Int32} {x3 : Int64} {x5 : Int32} {f_later : Nat → Int32} {f_open : Nat → Int32} {f_laid : Nat → Int32} {f_changed : Int32} {f_targets : Nat → Int32} {f_bytes : Nat → Int32} {f_behind : Int32} {f_numbers : Nat → Int32} {f_sectors : Nat → Int64} {f_newest : Int32} (hk195 : ∀ (f_head : Nat → Int32), K195 (zF f_head) → ∀ (H : Heap) (locs : List Loc) (ls : Array Slot), kH (dC, dI) cl A s.heap H locs (wX57 ci ad d f_count f_runs f_full f_disk f_later f_open f_laid f_places f_changed f_targets f_bytes f_first f_behind f_numbers f_sectors f_oldest f_newest f_keptNumbers f_keptSectors f_kept f_thrown f_head) → lv_has ls 7 [(0, .ref (ad 0)), (1, .int x1), (2, .int x2), (3, .long x3), (5, .int x5)] → W p l e ({ frames := 2, cells := 0, slots := 0, locals := 46 } : Room) s m args below meth c H locs 0 0 (MQ below (va_Qi (fun (r : Int32) (u : (Nat → Int32) × (Nat → Int32) × (Nat → Int32) × Int32 × (Nat → Int32) × (Nat → Int32) × Int32 × (Nat → Int32) × (Nat → Int64) × Int32 × (Nat → Int32)) => post r.toInt (zF (u.1)) (zF (u.2.1)) (zF (u.2.2.1)) (u.2.2.2.1).toInt (zF (u.2.2.2.2.1)) (zF (u.2.2.2.2.2.1)) (u.2.2.2.2.2.2.1).toInt (zF (u.2.2.2.2.2.2.2.1)) (zG (u.2.2.2.2.2.2.2.2.1)) (u.2.2.2.2.2.2.2.2.2.1).toInt (zF (u.2.2.2.2.2.2.2.2.2.2))) (kB (dC, dI) cl (tX57 d) A (fun u : (Nat → Int32) × (Nat → Int32) × (Nat → Int32) × Int32 × (Nat → Int32) × (Nat → Int32) × Int32 × (Nat → Int32) × (Nat → Int64) × Int32 × (Nat → Int32) => (wX57 ci ad d f_count f_runs f_full f_disk (u.1) (u.2.1) (u.2.2.1) f_places (u.2.2.2.1) (u.2.2.2.2.1) (u.2.2.2.2.2.1) f_first (u.2.2.2.2.2.2.1) (u.2.2.2.2.2.2.2.1) (u.2.2.2.2.2.2.2.2.1) f_oldest (u.2.2.2.2.2.2.2.2.2.1) f_keptNumbers f_keptSectors f_kept f_thrown (u.2.2.2.2.2.2.2.2.2.2)))) A) args s 0 0 A) (F0 m 195 ls [])) :
    ∀ (nn : Nat) (x6 : Int32) (f_head : Nat → Int32), wX57_commit_174 K195 nn x6.toInt (zF f_head) → ∀ (H : Heap) (locs : List Loc) (ls : Array Slot), kH (dC, dI) cl A s.heap H locs (wX57 ci ad d f_count f_runs f_full f_disk f_later f_open f_laid f_places f_changed f_targets f_bytes f_first f_behind f_numbers f_sectors f_oldest f_newest f_keptNumbers f_keptSectors f_kept f_thrown f_head) → lv_has ls 7 [(0, .ref (ad 0)), (1, .int x1), (2, .int x2), (3, .long x3), (5, .int x5), (6, .int x6)] → W p l e ({ frames := 2, cells := 0, slots := 0, locals := 46 } : Room) s m args below meth c H locs 0 0 (MQ below (va_Qi (fun (r : Int32) (u : (Nat → Int32) × (Nat → Int32) × (Nat → Int32) × Int32 × (Nat → Int32) × (Nat → Int32) × Int32 × (Nat → Int32) × (Nat → Int64) × Int32 × (Nat → Int32)) => post r.toInt (zF (u.1)) (zF (u.2.1)) (zF (u.2.2.1)) (u.2.2.2.1).toInt (zF (u.2.2.2.2.1)) (zF (u.2.2.2.2.2.1)) (u.2.2.2.2.2.2.1).toInt (zF (u.2.2.2.2.2.2.2.1)) (zG (u.2.2.2.2.2.2.2.2.1)) (u.2.2.2.2.2.2.2.2.2.1).toInt (zF (u.2.2.2.2.2.2.2.2.2.2))) (kB (dC, dI) cl (tX57 d) A (fun u : (Nat → Int32) × (Nat → Int32) × (Nat → Int32) × Int32 × (Nat → Int32) × (Nat → Int32) × Int32 × (Nat → Int32) × (Nat → Int64) × Int32 × (Nat → Int32) => (wX57 ci ad d f_count f_runs f_full f_disk (u.1) (u.2.1) (u.2.2.1) f_places (u.2.2.2.1) (u.2.2.2.2.1) (u.2.2.2.2.2.1) f_first (u.2.2.2.2.2.2.1) (u.2.2.2.2.2.2.2.1) (u.2.2.2.2.2.2.2.2.1) f_oldest (u.2.2.2.2.2.2.2.2.2.1) f_keptNumbers f_keptSectors f_kept f_thrown (u.2.2.2.2.2.2.2.2.2.2)))) A) args s 0 0 A) (F0 m 174 ls []) := by
  have hx := X.1.1
  have hb := X.1.2.1
  intro nn
  induction nn with
  | zero =>
    intro x6 f_head hw
    exact False.elim hw
  | succ n ih =>
    intro x6 f_head hw H locs ls hH hl
    rw [wX57_commit_174] at hw
    refine lv_iload hx hb dX57_commit_174 (lv_at hl 5 rfl) ?_
    refine lv_bipush (v := 32) hx hb dX57_commit_176 (by decide) ?_
    refine lv_icmp_ge (tgt := 195) hx hb dX57_commit_178 (by decide) (fun c_50 => ?_) (fun c_50 => ?_)
    · have hw := hw.1 (z_le (rfl : (32 : Int32).toInt = 32) (rfl : x6.toInt = _) c_50)
      exact hk195 f_head hw _ _ ls hH (lv_sub hl [0, 1, 2, 3, 4] rfl)
    · have hw := hw.2 (z_nle (rfl : (32 : Int32).toInt = 32) (rfl : x6.toInt = _) c_50)
      refine lv_aload_n hx hb dX57_commit_181 rfl (lv_at hl 0 rfl) ?_
      refine k_get X hH in_X57 0 rfl hc 21 (by decide) q6810 rfl dX57_commit_182 ?_
      refine lv_iload hx hb dX57_commit_185 (lv_at hl 5 rfl) ?_
      refine lv_iconst (v := 0) hx hb dX57_commit_187 (by decide) ?_
      have hq_52 := hw.1
      have hw := hw.2
      obtain ⟨f_head_51, ef_head_51⟩ : ∃ y : Nat → Int32, y = upd f_head x6.toNatClampNeg 0 := ⟨_, rfl⟩
      refine k_iast X hH 12 11 rfl rfl (z_in (rfl : x6.toInt = _) hq_52) dX57_commit_188 ef_head_51 (ws1 := (wX57 ci ad d f_count f_runs f_full f_disk f_later f_open f_laid f_places f_changed f_targets f_bytes f_first f_behind f_numbers f_sectors f_oldest f_newest f_keptNumbers f_keptSectors f_kept f_thrown f_head_51)) rfl (fun H locs hH => ?_)
      have hw := hw (zF f_head_51) (by rw [ef_head_51]; exact z_st (f := f_head) (rfl : x6.toInt = _) hq_52.1 (rfl : (0 : Int32).toInt = 0))
      have hq_54 := hw.1
      have hw := hw.2
      obtain ⟨x6_53, ex6_53⟩ : ∃ y : Int32, y = x6 + 1 := ⟨_, rfl⟩
      have hw := hw x6_53.toInt (by rw [ex6_53]; exact (z_x (z_add (z_m (rfl : x6.toInt = _)) (z_m (rfl : (1 : Int32).toInt = 1))) hq_54))
      refine lv_iinc (v := x6_53) (lv' := [(6, .int x6_53), (0, .ref (ad 0)), (1, .int x1), (2, .int x2), (3, .long x3), (5, .int x5)]) hx hb dX57_commit_189 hl (k := 5) rfl (by rw [ex6_53]; rfl) (by decide) rfl (fun ls hl => ?_)
      refine lv_goto (tgt := 174) hx hb dX57_commit_192 (by decide) ?_
      exact ih x6_53 f_head_51 hw _ _ ls hH (lv_sub hl [1, 2, 3, 4, 5, 0] rfl)
set_option maxHeartbeats 4000000 in
theorem walkX57_commit {l : Launch} {dC : Nat → ClassId} {dI : Nat → Nat → Nat} {cl : List vw_C} {ci : Nat} (hc : cl[ci]? = some (RX57, TX57, 22)) {ad : Nat → Nat} {d : Nat → ClassId} {sz : Nat} {f_count : Int32} {f_runs : Int32} {f_full : Int32} {f_disk : Nat → Int32} {f_later : Nat → Int32} {f_open : Nat → Int32} {f_laid : Nat → Int32} {f_places : Nat → Int32} {f_changed : Int32} {f_targets : Nat → Int32} {f_bytes : Nat → Int32} {f_first : Int32} {f_behind : Int32} {f_numbers : Nat → Int32} {f_sectors : Nat → Int64} {f_oldest : Int32} {f_newest : Int32} {f_keptNumbers : Nat → Int32} {f_keptSectors : Nat → Int64} {f_kept : Int32} {f_thrown : Int32} {f_head : Nat → Int32} {x1 : Int32} {post : Int → (Int → Int) → (Int → Int) → (Int → Int) → Int → (Int → Int) → (Int → Int) → Int → (Int → Int) → (Int → Int) → Int → (Int → Int) → Prop} (hw : wpX57_commit post f_count.toInt f_runs.toInt (zF f_later) (zF f_open) (zF f_laid) (zF f_places) f_changed.toInt (zF f_targets) (zF f_bytes) f_behind.toInt (zF f_numbers) (zG f_sectors) f_newest.toInt (zF f_head) x1.toInt) :
    Met l yX57_commit (ws_ yX57_commit cX57_commit 7 (some .int)) ({ frames := 2, cells := 0, slots := 0, locals := 46 } : Room) (kPc (dC, dI) cl (tX57 d) [.ref (ad 0), .int x1] sz (wX57 ci ad d f_count f_runs f_full f_disk f_later f_open f_laid f_places f_changed f_targets f_bytes f_first f_behind f_numbers f_sectors f_oldest f_newest f_keptNumbers f_keptSectors f_kept f_thrown f_head)) (va_Qi (fun (r : Int32) (u : (Nat → Int32) × (Nat → Int32) × (Nat → Int32) × Int32 × (Nat → Int32) × (Nat → Int32) × Int32 × (Nat → Int32) × (Nat → Int64) × Int32 × (Nat → Int32)) => post r.toInt (zF (u.1)) (zF (u.2.1)) (zF (u.2.2.1)) (u.2.2.2.1).toInt (zF (u.2.2.2.2.1)) (zF (u.2.2.2.2.2.1)) (u.2.2.2.2.2.2.1).toInt (zF (u.2.2.2.2.2.2.2.1)) (zG (u.2.2.2.2.2.2.2.2.1)) (u.2.2.2.2.2.2.2.2.2.1).toInt (zF (u.2.2.2.2.2.2.2.2.2.2))) (kB (dC, dI) cl (tX57 d) (va_A (wX57 ci ad d f_count f_runs f_full f_disk f_later f_open f_laid f_places f_changed f_targets f_bytes f_first f_behind f_numbers f_sectors f_oldest f_newest f_keptNumbers f_keptSectors f_kept f_thrown f_head) sz) (fun u : (Nat → Int32) × (Nat → Int32) × (Nat → Int32) × Int32 × (Nat → Int32) × (Nat → Int32) × Int32 × (Nat → Int32) × (Nat → Int64) × Int32 × (Nat → Int32) => (wX57 ci ad d f_count f_runs f_full f_disk (u.1) (u.2.1) (u.2.2.1) f_places (u.2.2.2.1) (u.2.2.2.2.1) (u.2.2.2.2.2.1) f_first (u.2.2.2.2.2.2.1) (u.2.2.2.2.2.2.2.1) (u.2.2.2.2.2.2.2.2.1) f_oldest (u.2.2.2.2.2.2.2.2.2.1) f_keptNumbers f_keptSectors f_kept f_thrown (u.2.2.2.2.2.2.2.2.2.2)))) (va_A (wX57 ci ad d f_count f_runs f_full f_disk f_later f_open f_laid f_places f_changed f_targets f_bytes f_first f_behind f_numbers f_sectors f_oldest f_newest f_keptNumbers f_keptSectors f_kept f_thrown f_head) sz)) 0 0 (va_A (wX57 ci ad d f_count f_runs f_full f_disk f_later f_open f_laid f_places f_changed f_targets f_bytes f_first f_behind f_numbers f_sectors f_oldest f_newest f_keptNumbers f_keptSectors f_kept f_thrown f_head) sz) := by
  refine k_enter (by decide) (Nat.le_of_ble_eq_true rfl) ?_
  intro p e s m below meth c ls X hsz hH hl
  subst hsz
  generalize va_A (wX57 ci ad d f_count f_runs f_full f_disk f_later f_open f_laid f_places f_changed f_targets f_bytes f_first f_behind f_numbers f_sectors f_oldest f_newest f_keptNumbers f_keptSectors f_kept f_thrown f_head) s.heap.size = A at hH ⊢
  have hx := X.1.1
  have hb := X.1.2.1
  have hl : lv_has ls 7 [(0, .ref (ad 0)), (1, .int x1)] := hl
  unfold wpX57_commit at hw
  refine lv_aload_n hx hb dX57_commit_0 rfl (lv_at hl 0 rfl) ?_
  refine k_get X hH in_X57 0 rfl hc 1 (by decide) q6791 rfl dX57_commit_1 ?_
  refine lv_if_eq (tgt := 14) hx hb dX57_commit_4 (by decide) (fun c_1 => ?_) (fun c_1 => ?_)
  · have hw := hw.1 (z_eq (rfl : f_runs.toInt = _) (rfl : (0 : Int32).toInt = 0) c_1)
    refine lv_bipush (v := (-3)) hx hb dX57_commit_14 (by decide) ?_
    exact k_iret (v := (-3)) X hH (f_later, f_open, f_laid, f_changed, f_targets, f_bytes, f_behind, f_numbers, f_sectors, f_newest, f_head) hw rfl rfl dX57_commit_16
  · have hw := hw.2 (z_neq (rfl : f_runs.toInt = _) (rfl : (0 : Int32).toInt = 0) c_1)
    refine lv_aload_n hx hb dX57_commit_7 rfl (lv_at hl 0 rfl) ?_
    refine k_get X hH in_X57 0 rfl hc 8 (by decide) q6798 rfl dX57_commit_8 ?_
    refine lv_if_ne (tgt := 17) hx hb dX57_commit_11 (by decide) (fun c_2 => ?_) (fun c_2 => ?_)
    · have hw := hw.2 (z_ne (rfl : f_changed.toInt = _) (rfl : (0 : Int32).toInt = 0) c_2)
      refine lv_iload_n hx hb dX57_commit_17 rfl (lv_at hl 1 rfl) ?_
      refine lv_aload_n hx hb dX57_commit_18 rfl (lv_at hl 0 rfl) ?_
      refine k_get X hH in_X57 0 rfl hc 13 (by decide) q6803 rfl dX57_commit_19 ?_
      refine lv_aload_n hx hb dX57_commit_22 rfl (lv_at hl 0 rfl) ?_
      refine k_get X hH in_X57 0 rfl hc 16 (by decide) q6806 rfl dX57_commit_23 ?_
      have hq_3 := hw.1
      have hw := hw.2
      refine k_iald X hH 8 7 rfl rfl (z_in (rfl : f_newest.toInt = _) hq_3) dX57_commit_26 ?_
      have e_4 := z_ld (f := f_numbers) (rfl : f_newest.toInt = _) hq_3.1
      refine lv_icmp_le (tgt := 36) hx hb dX57_commit_27 (by decide) (fun c_5 => ?_) (fun c_5 => ?_)
      · have hw := hw.1 (z_le (rfl : x1.toInt = _) e_4 c_5)
        refine lv_bipush (v := (-2)) hx hb dX57_commit_36 (by decide) ?_
        exact k_iret (v := (-2)) X hH (f_later, f_open, f_laid, f_changed, f_targets, f_bytes, f_behind, f_numbers, f_sectors, f_newest, f_head) hw rfl rfl dX57_commit_38
      · have hw := hw.2 (z_nle (rfl : x1.toInt = _) e_4 c_5)
        refine lv_iload_n hx hb dX57_commit_30 rfl (lv_at hl 1 rfl) ?_
        refine lv_ldc (v := 1000000) hx hb X.1.2.2.2.1 (X.1.2.2.2.2 _ q7862) dX57_commit_31 ?_
        refine lv_icmp_le (tgt := 39) hx hb dX57_commit_33 (by decide) (fun c_6 => ?_) (fun c_6 => ?_)
        · have hw := hw.1 (z_le (rfl : x1.toInt = _) (rfl : (1000000 : Int32).toInt = 1000000) c_6)
          refine lv_aload_n hx hb dX57_commit_39 rfl (lv_at hl 0 rfl) ?_
          refine k_get X hH in_X57 0 rfl hc 12 (by decide) q6802 rfl dX57_commit_40 ?_
          refine lv_istore_n (lv' := [(2, .int f_behind), (0, .ref (ad 0)), (1, .int x1)]) hx hb dX57_commit_43 rfl hl (by decide) rfl (fun ls hl => ?_)
          refine lv_iconst (v := 2) hx hb dX57_commit_44 (by decide) ?_
          refine lv_istore_n (lv' := [(3, .int 2), (2, .int f_behind), (0, .ref (ad 0)), (1, .int x1)]) hx hb dX57_commit_45 rfl hl (by decide) rfl (fun ls hl => ?_)
          obtain ⟨fu, hw⟩ := hw
          refine atX57_commit_46 hc X ?_ fu 2 f_later f_open f_laid f_targets f_bytes f_behind hw _ _ ls hH (lv_sub hl [2, 3, 1, 0] rfl)
          · intro f_later_26 f_open_27 f_laid_28 f_targets_29 f_bytes_30 f_behind_31 hw H locs ls hH hl
            refine lv_lconst (v := 0) hx hb dX57_commit_112 (by decide) ?_
            refine lv_lstore_n (lv' := [(3, .long 0), (0, .ref (ad 0)), (1, .int x1), (2, .int f_behind)]) hx hb dX57_commit_113 rfl hl (by decide) rfl (fun ls hl => ?_)
            refine lv_iconst (v := 0) hx hb dX57_commit_114 (by decide) ?_
            refine lv_istore (lv' := [(5, .int 0), (3, .long 0), (0, .ref (ad 0)), (1, .int x1), (2, .int f_behind)]) hx hb dX57_commit_115 hl (by decide) rfl (fun ls hl => ?_)
            refine lv_iconst (v := 2) hx hb dX57_commit_117 (by decide) ?_
            refine lv_istore (lv' := [(6, .int 2), (5, .int 0), (3, .long 0), (0, .ref (ad 0)), (1, .int x1), (2, .int f_behind)]) hx hb dX57_commit_118 hl (by decide) rfl (fun ls hl => ?_)
            obtain ⟨fu, hw⟩ := hw
            refine atX57_commit_120 hc X ?_ fu 0 0 2 hw _ _ ls hH (lv_sub hl [3, 4, 5, 2, 1, 0] rfl)
            · intro x3_48 x5_49 hw H locs ls hH hl
              refine lv_iconst (v := 0) hx hb dX57_commit_171 (by decide) ?_
              refine lv_istore (lv' := [(6, .int 0), (0, .ref (ad 0)), (1, .int x1), (2, .int f_behind), (3, .long x3_48), (5, .int x5_49)]) hx hb dX57_commit_172 hl (by decide) rfl (fun ls hl => ?_)
              obtain ⟨fu, hw⟩ := hw
              refine atX57_commit_174 hc X ?_ fu 0 f_head hw _ _ ls hH (lv_sub hl [1, 2, 3, 4, 5, 0] rfl)
              · intro f_head_55 hw H locs ls hH hl
                refine lv_aload_n hx hb dX57_commit_195 rfl (lv_at hl 0 rfl) ?_
                refine k_get X hH in_X57 0 rfl hc 21 (by decide) q6810 rfl dX57_commit_196 ?_
                refine lv_iconst (v := 4) hx hb dX57_commit_199 (by decide) ?_
                refine lv_bipush (v := 9) hx hb dX57_commit_200 (by decide) ?_
                obtain ⟨f_head_56, ef_head_56⟩ : ∃ y : Nat → Int32, y = upd f_head_55 (4 : Int32).toNatClampNeg 9 := ⟨_, rfl⟩
                refine k_iast X hH 12 11 rfl rfl (by unfold vp_in; decide) dX57_commit_202 ef_head_56 (ws1 := (wX57 ci ad d f_count f_runs f_full f_disk f_later_26 f_open_27 f_laid_28 f_places f_changed f_targets_29 f_bytes_30 f_first f_behind_31 f_numbers f_sectors f_oldest f_newest f_keptNumbers f_keptSectors f_kept f_thrown f_head_56)) rfl (fun H locs hH => ?_)
                have hw := hw (zF f_head_56) (by rw [ef_head_56]; exact z_st (f := f_head_55) (rfl : (4 : Int32).toInt = 4) (by decide) (rfl : (9 : Int32).toInt = 9))
                refine lv_aload_n hx hb dX57_commit_203 rfl (lv_at hl 0 rfl) ?_
                refine k_get X hH in_X57 0 rfl hc 21 (by decide) q6810 rfl dX57_commit_204 ?_
                refine lv_bipush (v := 8) hx hb dX57_commit_207 (by decide) ?_
                refine lv_lload_n hx hb dX57_commit_209 rfl (lv_at hl 3 rfl) ?_
                refine k_v0 hH (k_runS (As := [.ref (ad 12), .int 8, .long x3_48]) (rest := []) X hH.1 hH.2.1 X.2.2.2 (walkX57_setWide_head hc (x1 := 8) (x2 := x3_48) (f_count := f_count) (f_runs := f_runs) (f_full := f_full) (f_disk := f_disk) (f_later := f_later_26) (f_open := f_open_27) (f_laid := f_laid_28) (f_places := f_places) (f_changed := f_changed) (f_targets := f_targets_29) (f_bytes := f_bytes_30) (f_first := f_first) (f_behind := f_behind_31) (f_numbers := f_numbers) (f_sectors := f_sectors) (f_oldest := f_oldest) (f_newest := f_newest) (f_keptNumbers := f_keptNumbers) (f_keptSectors := f_keptSectors) (f_kept := f_kept) (f_thrown := f_thrown) (f_head := f_head_56) hw) (va_cwS 3 X.1.2.2.2.2 gX57_120 rfl rfl rfl hX57_setWide ⟨Nat.le_of_ble_eq_true rfl, Nat.le_of_ble_eq_true rfl⟩) rfl hl.1 rfl (Nat.le_of_ble_eq_true rfl) dX57_commit_210 ⟨Nat.le_refl 0, Nat.le_refl 0⟩) (fun u H locs hw hH => ?_)
                obtain ⟨f_head_57, eu⟩ : ∃ z, z = u := ⟨_, rfl⟩
                subst eu
                have hH : kH (dC, dI) cl A s.heap H locs (wX57 ci ad d f_count f_runs f_full f_disk f_later_26 f_open_27 f_laid_28 f_places f_changed f_targets_29 f_bytes_30 f_first f_behind_31 f_numbers f_sectors f_oldest f_newest f_keptNumbers f_keptSectors f_kept f_thrown f_head_57) := hH
                refine lv_aload_n hx hb dX57_commit_213 rfl (lv_at hl 0 rfl) ?_
                refine k_get X hH in_X57 0 rfl hc 21 (by decide) q6810 rfl dX57_commit_214 ?_
                refine lv_bipush (v := 16) hx hb dX57_commit_217 (by decide) ?_
                refine lv_iload_n hx hb dX57_commit_219 rfl (lv_at hl 1 rfl) ?_
                refine k_v0 hH (k_runS (As := [.ref (ad 12), .int 16, .int x1]) (rest := []) X hH.1 hH.2.1 X.2.2.2 (walkX57_set_head hc (x1 := 16) (x2 := x1) (f_count := f_count) (f_runs := f_runs) (f_full := f_full) (f_disk := f_disk) (f_later := f_later_26) (f_open := f_open_27) (f_laid := f_laid_28) (f_places := f_places) (f_changed := f_changed) (f_targets := f_targets_29) (f_bytes := f_bytes_30) (f_first := f_first) (f_behind := f_behind_31) (f_numbers := f_numbers) (f_sectors := f_sectors) (f_oldest := f_oldest) (f_newest := f_newest) (f_keptNumbers := f_keptNumbers) (f_keptSectors := f_keptSectors) (f_kept := f_kept) (f_thrown := f_thrown) (f_head := f_head_57) hw) (va_cwS 3 X.1.2.2.2.2 gX57_84 rfl rfl rfl hX57_set ⟨Nat.le_of_ble_eq_true rfl, Nat.le_of_ble_eq_true rfl⟩) rfl hl.1 rfl (Nat.le_of_ble_eq_true rfl) dX57_commit_220 ⟨Nat.le_refl 0, Nat.le_refl 0⟩) (fun u H locs hw hH => ?_)
                obtain ⟨f_head_58, eu⟩ : ∃ z, z = u := ⟨_, rfl⟩
                subst eu
                have hH : kH (dC, dI) cl A s.heap H locs (wX57 ci ad d f_count f_runs f_full f_disk f_later_26 f_open_27 f_laid_28 f_places f_changed f_targets_29 f_bytes_30 f_first f_behind_31 f_numbers f_sectors f_oldest f_newest f_keptNumbers f_keptSectors f_kept f_thrown f_head_58) := hH
                refine lv_aload_n hx hb dX57_commit_223 rfl (lv_at hl 0 rfl) ?_
                refine k_get X hH in_X57 0 rfl hc 21 (by decide) q6810 rfl dX57_commit_224 ?_
                refine lv_bipush (v := 20) hx hb dX57_commit_227 (by decide) ?_
                refine lv_iload hx hb dX57_commit_229 (lv_at hl 4 rfl) ?_
                refine k_v0 hH (k_runS (As := [.ref (ad 12), .int 20, .int x5_49]) (rest := []) X hH.1 hH.2.1 X.2.2.2 (walkX57_set_head hc (x1 := 20) (x2 := x5_49) (f_count := f_count) (f_runs := f_runs) (f_full := f_full) (f_disk := f_disk) (f_later := f_later_26) (f_open := f_open_27) (f_laid := f_laid_28) (f_places := f_places) (f_changed := f_changed) (f_targets := f_targets_29) (f_bytes := f_bytes_30) (f_first := f_first) (f_behind := f_behind_31) (f_numbers := f_numbers) (f_sectors := f_sectors) (f_oldest := f_oldest) (f_newest := f_newest) (f_keptNumbers := f_keptNumbers) (f_keptSectors := f_keptSectors) (f_kept := f_kept) (f_thrown := f_thrown) (f_head := f_head_58) hw) (va_cwS 3 X.1.2.2.2.2 gX57_84 rfl rfl rfl hX57_set ⟨Nat.le_of_ble_eq_true rfl, Nat.le_of_ble_eq_true rfl⟩) rfl hl.1 rfl (Nat.le_of_ble_eq_true rfl) dX57_commit_231 ⟨Nat.le_refl 0, Nat.le_refl 0⟩) (fun u H locs hw hH => ?_)
                obtain ⟨f_head_59, eu⟩ : ∃ z, z = u := ⟨_, rfl⟩
                subst eu
                have hH : kH (dC, dI) cl A s.heap H locs (wX57 ci ad d f_count f_runs f_full f_disk f_later_26 f_open_27 f_laid_28 f_places f_changed f_targets_29 f_bytes_30 f_first f_behind_31 f_numbers f_sectors f_oldest f_newest f_keptNumbers f_keptSectors f_kept f_thrown f_head_59) := hH
                refine lv_aload_n hx hb dX57_commit_234 rfl (lv_at hl 0 rfl) ?_
                refine k_get X hH in_X57 0 rfl hc 21 (by decide) q6810 rfl dX57_commit_235 ?_
                refine lv_iconst (v := 0) hx hb dX57_commit_238 (by decide) ?_
                refine k_v0 hH (k_runS (As := [.ref (ad 12), .int 0]) (rest := []) X hH.1 hH.2.1 X.2.2.2 (walkX57_close_head hc (x1 := 0) (f_count := f_count) (f_runs := f_runs) (f_full := f_full) (f_disk := f_disk) (f_later := f_later_26) (f_open := f_open_27) (f_laid := f_laid_28) (f_places := f_places) (f_changed := f_changed) (f_targets := f_targets_29) (f_bytes := f_bytes_30) (f_first := f_first) (f_behind := f_behind_31) (f_numbers := f_numbers) (f_sectors := f_sectors) (f_oldest := f_oldest) (f_newest := f_newest) (f_keptNumbers := f_keptNumbers) (f_keptSectors := f_keptSectors) (f_kept := f_kept) (f_thrown := f_thrown) (f_head := f_head_59) hw) (va_cwS 2 X.1.2.2.2.2 gX57_124 rfl rfl rfl hX57_close ⟨Nat.le_of_ble_eq_true rfl, Nat.le_of_ble_eq_true rfl⟩) rfl hl.1 rfl (Nat.le_of_ble_eq_true rfl) dX57_commit_239 ⟨Nat.le_refl 0, Nat.le_refl 0⟩) (fun u H locs hw hH => ?_)
                obtain ⟨f_head_60, eu⟩ : ∃ z, z = u := ⟨_, rfl⟩
                subst eu
                have hH : kH (dC, dI) cl A s.heap H locs (wX57 ci ad d f_count f_runs f_full f_disk f_later_26 f_open_27 f_laid_28 f_places f_changed f_targets_29 f_bytes_30 f_first f_behind_31 f_numbers f_sectors f_oldest f_newest f_keptNumbers f_keptSectors f_kept f_thrown f_head_60) := hH
                refine lv_aload_n hx hb dX57_commit_242 rfl (lv_at hl 0 rfl) ?_
                refine lv_aload_n hx hb dX57_commit_243 rfl (lv_at hl 0 rfl) ?_
                refine k_get X hH in_X57 0 rfl hc 21 (by decide) q6810 rfl dX57_commit_244 ?_
                refine lv_iconst (v := 0) hx hb dX57_commit_247 (by decide) ?_
                refine lv_iload_n hx hb dX57_commit_248 rfl (lv_at hl 1 rfl) ?_
                refine lv_iconst (v := 2) hx hb dX57_commit_249 (by decide) ?_
                have hq_61 := hw.1
                have hw := hw.2
                refine lv_irem hx hb dX57_commit_250 (by decide) ?_
                have e_62 := z_rem (rfl : x1.toInt = _) (rfl : (2 : Int32).toInt = 2) hq_61 (by decide)
                refine k_v0 hH (k_runV (As := [.ref (ad 12), .int 0, .int (x1 - x1 / 2 * 2)]) (rest := []) X hH.1 hH.2.1 X.2.2.2 (walkX57_queue_head hc (x2 := 0) (x3 := (x1 - x1 / 2 * 2)) (f_count := f_count) (f_runs := f_runs) (f_full := f_full) (f_disk := f_disk) (f_later := f_later_26) (f_open := f_open_27) (f_laid := f_laid_28) (f_places := f_places) (f_changed := f_changed) (f_targets := f_targets_29) (f_bytes := f_bytes_30) (f_first := f_first) (f_behind := f_behind_31) (f_numbers := f_numbers) (f_sectors := f_sectors) (f_oldest := f_oldest) (f_newest := f_newest) (f_keptNumbers := f_keptNumbers) (f_keptSectors := f_keptSectors) (f_kept := f_kept) (f_thrown := f_thrown) (f_head := f_head_60) (by rw [show (x1 - x1 / 2 * 2 : Int32).toInt = _ from e_62]; exact hw)) (cwV 3 X.1.2.2.2.2 gX57_155 rfl rfl rfl hX57_queue ⟨Nat.le_of_ble_eq_true rfl, Nat.le_of_ble_eq_true rfl⟩) hc (q0 := 0) rfl rfl hl.1 rfl (Nat.le_of_ble_eq_true rfl) dX57_commit_251 ⟨Nat.le_refl 0, Nat.le_refl 0⟩) (fun u H locs hw hH => ?_)
                obtain ⟨f_later_63, f_targets_64, f_bytes_65, f_behind_66⟩ := u
                have hH : kH (dC, dI) cl A s.heap H locs (wX57 ci ad d f_count f_runs f_full f_disk f_later_63 f_open_27 f_laid_28 f_places f_changed f_targets_64 f_bytes_65 f_first f_behind_66 f_numbers f_sectors f_oldest f_newest f_keptNumbers f_keptSectors f_kept f_thrown f_head_60) := hH
                refine lv_aload_n hx hb dX57_commit_254 rfl (lv_at hl 0 rfl) ?_
                refine lv_dup hx hb dX57_commit_255 rfl ?_
                refine k_get X hH in_X57 0 rfl hc 16 (by decide) q6806 rfl dX57_commit_256 ?_
                refine lv_iconst (v := 1) hx hb dX57_commit_259 (by decide) ?_
                refine lv_iadd hx hb dX57_commit_260 ?_
                have e_67 := z_add (z_m (rfl : f_newest.toInt = _)) (z_m (rfl : (1 : Int32).toInt = 1))
                have hq_68 := hw.1
                have hw := hw.2
                have e_69 := z_x e_67 hq_68
                refine lv_topi (fun f_newest_70 ef_newest_70 => ?_)
                have hw := hw f_newest_70.toInt (by rw [ef_newest_70]; exact e_69)
                refine k_put X hH in_X57 tyX57_ok nmX57 0 rfl hc 16 (by decide) q6806 rfl (ty := .int) rfl rfl rfl (Nat.le_of_ble_eq_true rfl) dX57_commit_261 (ws1 := (wX57 ci ad d f_count f_runs f_full f_disk f_later_63 f_open_27 f_laid_28 f_places f_changed f_targets_64 f_bytes_65 f_first f_behind_66 f_numbers f_sectors f_oldest f_newest_70 f_keptNumbers f_keptSectors f_kept f_thrown f_head_60)) rfl (fun H locs hH => ?_)
                refine lv_aload_n hx hb dX57_commit_264 rfl (lv_at hl 0 rfl) ?_
                refine k_get X hH in_X57 0 rfl hc 13 (by decide) q6803 rfl dX57_commit_265 ?_
                refine lv_aload_n hx hb dX57_commit_268 rfl (lv_at hl 0 rfl) ?_
                refine k_get X hH in_X57 0 rfl hc 16 (by decide) q6806 rfl dX57_commit_269 ?_
                refine lv_iload_n hx hb dX57_commit_272 rfl (lv_at hl 1 rfl) ?_
                have hq_72 := hw.1
                have hw := hw.2
                obtain ⟨f_numbers_71, ef_numbers_71⟩ : ∃ y : Nat → Int32, y = upd f_numbers f_newest_70.toNatClampNeg x1 := ⟨_, rfl⟩
                refine k_iast X hH 8 7 rfl rfl (z_in (rfl : f_newest_70.toInt = _) hq_72) dX57_commit_273 ef_numbers_71 (ws1 := (wX57 ci ad d f_count f_runs f_full f_disk f_later_63 f_open_27 f_laid_28 f_places f_changed f_targets_64 f_bytes_65 f_first f_behind_66 f_numbers_71 f_sectors f_oldest f_newest_70 f_keptNumbers f_keptSectors f_kept f_thrown f_head_60)) rfl (fun H locs hH => ?_)
                have hw := hw (zF f_numbers_71) (by rw [ef_numbers_71]; exact z_st (f := f_numbers) (rfl : f_newest_70.toInt = _) hq_72.1 (rfl : x1.toInt = _))
                refine lv_aload_n hx hb dX57_commit_274 rfl (lv_at hl 0 rfl) ?_
                refine k_get X hH in_X57 0 rfl hc 14 (by decide) q6804 rfl dX57_commit_275 ?_
                refine lv_aload_n hx hb dX57_commit_278 rfl (lv_at hl 0 rfl) ?_
                refine k_get X hH in_X57 0 rfl hc 16 (by decide) q6806 rfl dX57_commit_279 ?_
                refine lv_lload_n hx hb dX57_commit_282 rfl (lv_at hl 3 rfl) ?_
                obtain ⟨f_sectors_73, ef_sectors_73⟩ : ∃ y : Nat → Int64, y = vp_updL f_sectors f_newest_70.toNatClampNeg x3_48 := ⟨_, rfl⟩
                refine k_last X hH 9 8 rfl rfl (z_in (rfl : f_newest_70.toInt = _) hq_72) dX57_commit_283 ef_sectors_73 (ws1 := (wX57 ci ad d f_count f_runs f_full f_disk f_later_63 f_open_27 f_laid_28 f_places f_changed f_targets_64 f_bytes_65 f_first f_behind_66 f_numbers_71 f_sectors_73 f_oldest f_newest_70 f_keptNumbers f_keptSectors f_kept f_thrown f_head_60)) rfl (fun H locs hH => ?_)
                have hw := hw (zG f_sectors_73) (by rw [ef_sectors_73]; exact z_stL (f := f_sectors) (rfl : f_newest_70.toInt = _) hq_72.1 (rfl : x3_48.toInt = _))
                refine lv_aload_n hx hb dX57_commit_284 rfl (lv_at hl 0 rfl) ?_
                refine lv_iconst (v := 0) hx hb dX57_commit_285 (by decide) ?_
                refine k_put X hH in_X57 tyX57_ok nmX57 0 rfl hc 8 (by decide) q6798 rfl (ty := .boolean) rfl rfl rfl (Nat.le_of_ble_eq_true rfl) dX57_commit_286 (ws1 := (wX57 ci ad d f_count f_runs f_full f_disk f_later_63 f_open_27 f_laid_28 f_places 0 f_targets_64 f_bytes_65 f_first f_behind_66 f_numbers_71 f_sectors_73 f_oldest f_newest_70 f_keptNumbers f_keptSectors f_kept f_thrown f_head_60)) rfl (fun H locs hH => ?_)
                refine lv_aload_n hx hb dX57_commit_289 rfl (lv_at hl 0 rfl) ?_
                refine k_get X hH in_X57 0 rfl hc 12 (by decide) q6802 rfl dX57_commit_290 ?_
                refine lv_iload_n hx hb dX57_commit_293 rfl (lv_at hl 2 rfl) ?_
                refine lv_isub hx hb dX57_commit_294 ?_
                have e_74 := z_sub (z_m (rfl : f_behind_66.toInt = _)) (z_m (rfl : f_behind.toInt = _))
                have hq_75 := hw.1
                have hw := hw.2
                have e_76 := z_x e_74 hq_75
                exact k_iret (v := f_behind_66 - f_behind) X hH (f_later_63, f_open_27, f_laid_28, 0, f_targets_64, f_bytes_65, f_behind_66, f_numbers_71, f_sectors_73, f_newest_70, f_head_60) (by rw [show (f_behind_66 - f_behind : Int32).toInt = _ from e_76]; exact hw) rfl rfl dX57_commit_295
        · have hw := hw.2 (z_nle (rfl : x1.toInt = _) (rfl : (1000000 : Int32).toInt = 1000000) c_6)
          refine lv_bipush (v := (-2)) hx hb dX57_commit_36 (by decide) ?_
          exact k_iret (v := (-2)) X hH (f_later, f_open, f_laid, f_changed, f_targets, f_bytes, f_behind, f_numbers, f_sectors, f_newest, f_head) hw rfl rfl dX57_commit_38
    · have hw := hw.1 (z_eq (rfl : f_changed.toInt = _) (rfl : (0 : Int32).toInt = 0) c_2)
      refine lv_bipush (v := (-3)) hx hb dX57_commit_14 (by decide) ?_
      exact k_iret (v := (-3)) X hH (f_later, f_open, f_laid, f_changed, f_targets, f_bytes, f_behind, f_numbers, f_sectors, f_newest, f_head) hw rfl rfl dX57_commit_16
set_option maxHeartbeats 4000000 in
theorem atX57_write_2 {p : Program} {l : Launch} {e : Env} {s : State} {m : MethodId} {args : Array Value} {below : List Frame} {meth : Method} {c : Code} {dC : Nat → ClassId} {dI : Nat → Nat → Nat} {cl : List vw_C} {ci : Nat} (hc : cl[ci]? = some (RX57, TX57, 22)) {ad : Nat → Nat} {d : Nat → ClassId} {A : Nat → Prop} {post : (Int → Int) → Int → Prop} {f_count : Int32} {f_runs : Int32} {f_full : Int32} {f_later : Nat → Int32} {f_open : Nat → Int32} {f_laid : Nat → Int32} {f_places : Nat → Int32} {f_changed : Int32} {f_targets : Nat → Int32} {f_bytes : Nat → Int32} {f_behind : Int32} {f_numbers : Nat → Int32} {f_sectors : Nat → Int64} {f_oldest : Int32} {f_newest : Int32} {f_keptNumbers : Nat → Int32} {f_keptSectors : Nat → Int64} {f_kept : Int32} {f_thrown : Int32} {f_head : Nat → Int32} (X : kX p s m args meth c cX57_write 3 RX57 none (dC, dI) cl (tX57 d)) {K46 : (Int → Int) → Prop} {x1 : Int32} {f_first : Int32} (hk46 : ∀ (f_disk : Nat → Int32), K46 (zF f_disk) → ∀ (H : Heap) (locs : List Loc) (ls : Array Slot), kH (dC, dI) cl A s.heap H locs (wX57 ci ad d f_count f_runs f_full f_disk f_later f_open f_laid f_places f_changed f_targets f_bytes f_first f_behind f_numbers f_sectors f_oldest f_newest f_keptNumbers f_keptSectors f_kept f_thrown f_head) → lv_has ls 3 [(0, .ref (ad 0))] → W p l e ({ frames := 0, cells := 0, slots := 0, locals := 0 } : Room) s m args below meth c H locs 0 0 (MQ below (va_Qv (fun (u : (Nat → Int32) × Int32) => post (zF (u.1)) (u.2).toInt) (kB (dC, dI) cl (tX57 d) A (fun u : (Nat → Int32) × Int32 => (wX57 ci ad d f_count f_runs f_full (u.1) f_later f_open f_laid f_places f_changed f_targets f_bytes (u.2) f_behind f_numbers f_sectors f_oldest f_newest f_keptNumbers f_keptSectors f_kept f_thrown f_head))) A) args s 0 0 A) (F0 m 46 ls [])) :
    ∀ (nn : Nat) (x2 : Int32) (f_disk : Nat → Int32), wX57_write_2 K46 x1.toInt (zF f_targets) (zF f_bytes) f_first.toInt nn x2.toInt (zF f_disk) → ∀ (H : Heap) (locs : List Loc) (ls : Array Slot), kH (dC, dI) cl A s.heap H locs (wX57 ci ad d f_count f_runs f_full f_disk f_later f_open f_laid f_places f_changed f_targets f_bytes f_first f_behind f_numbers f_sectors f_oldest f_newest f_keptNumbers f_keptSectors f_kept f_thrown f_head) → lv_has ls 3 [(0, .ref (ad 0)), (1, .int x1), (2, .int x2)] → W p l e ({ frames := 0, cells := 0, slots := 0, locals := 0 } : Room) s m args below meth c H locs 0 0 (MQ below (va_Qv (fun (u : (Nat → Int32) × Int32) => post (zF (u.1)) (u.2).toInt) (kB (dC, dI) cl (tX57 d) A (fun u : (Nat → Int32) × Int32 => (wX57 ci ad d f_count f_runs f_full (u.1) f_later f_open f_laid f_places f_changed f_targets f_bytes (u.2) f_behind f_numbers f_sectors f_oldest f_newest f_keptNumbers f_keptSectors f_kept f_thrown f_head))) A) args s 0 0 A) (F0 m 2 ls []) := by
  have hx := X.1.1
  have hb := X.1.2.1
  intro nn
  induction nn with
  | zero =>
    intro x2 f_disk hw
    exact False.elim hw
  | succ n ih =>
    intro x2 f_disk hw H locs ls hH hl
    rw [wX57_write_2] at hw
    refine lv_iload_n hx hb dX57_write_2 rfl (lv_at hl 2 rfl) ?_
    refine lv_iload_n hx hb dX57_write_3 rfl (lv_at hl 1 rfl) ?_
    refine lv_icmp_ge (tgt := 46) hx hb dX57_write_4 (by decide) (fun c_1 => ?_) (fun c_1 => ?_)
    · have hw := hw.1 (z_le (rfl : x1.toInt = _) (rfl : x2.toInt = _) c_1)
      exact hk46 f_disk hw _ _ ls hH (lv_sub hl [0] rfl)
    · have hw := hw.2 (z_nle (rfl : x1.toInt = _) (rfl : x2.toInt = _) c_1)
      refine lv_aload_n hx hb dX57_write_7 rfl (lv_at hl 0 rfl) ?_
      refine k_get X hH in_X57 0 rfl hc 3 (by decide) q6793 rfl dX57_write_8 ?_
      refine lv_bipush (v := 32) hx hb dX57_write_11 (by decide) ?_
      refine lv_aload_n hx hb dX57_write_13 rfl (lv_at hl 0 rfl) ?_
      refine k_get X hH in_X57 0 rfl hc 9 (by decide) q6799 rfl dX57_write_14 ?_
      refine lv_aload_n hx hb dX57_write_17 rfl (lv_at hl 0 rfl) ?_
      refine k_get X hH in_X57 0 rfl hc 11 (by decide) q6801 rfl dX57_write_18 ?_
      have hq_2 := hw.1
      have hw := hw.2
      refine k_iald X hH 6 5 rfl rfl (z_in (rfl : f_first.toInt = _) hq_2) dX57_write_21 ?_
      have e_3 := z_ld (f := f_targets) (rfl : f_first.toInt = _) hq_2.1
      refine lv_imul hx hb dX57_write_22 ?_
      have e_4 := z_mul (z_m (rfl : (32 : Int32).toInt = 32)) (z_m e_3)
      refine lv_iload_n hx hb dX57_write_23 rfl (lv_at hl 2 rfl) ?_
      refine lv_iadd hx hb dX57_write_24 ?_
      have e_5 := z_add e_4 (z_m (rfl : x2.toInt = _))
      refine lv_aload_n hx hb dX57_write_25 rfl (lv_at hl 0 rfl) ?_
      refine k_get X hH in_X57 0 rfl hc 10 (by decide) q6800 rfl dX57_write_26 ?_
      refine lv_bipush (v := 32) hx hb dX57_write_29 (by decide) ?_
      refine lv_aload_n hx hb dX57_write_31 rfl (lv_at hl 0 rfl) ?_
      refine k_get X hH in_X57 0 rfl hc 11 (by decide) q6801 rfl dX57_write_32 ?_
      refine lv_imul hx hb dX57_write_35 ?_
      have e_6 := z_mul (z_m (rfl : (32 : Int32).toInt = 32)) (z_m (rfl : f_first.toInt = _))
      refine lv_iload_n hx hb dX57_write_36 rfl (lv_at hl 2 rfl) ?_
      refine lv_iadd hx hb dX57_write_37 ?_
      have e_7 := z_add e_6 (z_m (rfl : x2.toInt = _))
      have hq_8 := hw.1
      have hw := hw.2
      have e_9 := z_xi e_7 hq_8 (by decide)
      refine k_iald X hH 7 6 rfl rfl (z_in e_9 hq_8) dX57_write_38 ?_
      have e_10 := z_ld (f := f_bytes) e_9 hq_8.1
      refine lv_topi (fun v_11 ev_11 => ?_)
      have hw := hw v_11.toInt (by rw [ev_11]; exact e_10)
      have hq_13 := hw.1
      have hw := hw.2
      have e_14 := z_xi e_5 hq_13 (by decide)
      obtain ⟨f_disk_12, ef_disk_12⟩ : ∃ y : Nat → Int32, y = upd f_disk ((32 * (f_targets f_first.toNatClampNeg)) + x2).toNatClampNeg v_11 := ⟨_, rfl⟩
      refine k_iast X hH 1 0 rfl rfl (z_in e_14 hq_13) dX57_write_39 ef_disk_12 (ws1 := (wX57 ci ad d f_count f_runs f_full f_disk_12 f_later f_open f_laid f_places f_changed f_targets f_bytes f_first f_behind f_numbers f_sectors f_oldest f_newest f_keptNumbers f_keptSectors f_kept f_thrown f_head)) rfl (fun H locs hH => ?_)
      have hw := hw (zF f_disk_12) (by rw [ef_disk_12]; exact z_st (f := f_disk) e_14 hq_13.1 (rfl : v_11.toInt = _))
      have hq_16 := hw.1
      have hw := hw.2
      obtain ⟨x2_15, ex2_15⟩ : ∃ y : Int32, y = x2 + 1 := ⟨_, rfl⟩
      have hw := hw x2_15.toInt (by rw [ex2_15]; exact (z_x (z_add (z_m (rfl : x2.toInt = _)) (z_m (rfl : (1 : Int32).toInt = 1))) hq_16))
      refine lv_iinc (v := x2_15) (lv' := [(2, .int x2_15), (0, .ref (ad 0)), (1, .int x1)]) hx hb dX57_write_40 hl (k := 2) rfl (by rw [ex2_15]; rfl) (by decide) rfl (fun ls hl => ?_)
      refine lv_goto (tgt := 2) hx hb dX57_write_43 (by decide) ?_
      exact ih x2_15 f_disk_12 hw _ _ ls hH (lv_sub hl [1, 2, 0] rfl)
set_option maxHeartbeats 4000000 in
theorem walkX57_write {l : Launch} {dC : Nat → ClassId} {dI : Nat → Nat → Nat} {cl : List vw_C} {ci : Nat} (hc : cl[ci]? = some (RX57, TX57, 22)) {ad : Nat → Nat} {d : Nat → ClassId} {sz : Nat} {f_count : Int32} {f_runs : Int32} {f_full : Int32} {f_disk : Nat → Int32} {f_later : Nat → Int32} {f_open : Nat → Int32} {f_laid : Nat → Int32} {f_places : Nat → Int32} {f_changed : Int32} {f_targets : Nat → Int32} {f_bytes : Nat → Int32} {f_first : Int32} {f_behind : Int32} {f_numbers : Nat → Int32} {f_sectors : Nat → Int64} {f_oldest : Int32} {f_newest : Int32} {f_keptNumbers : Nat → Int32} {f_keptSectors : Nat → Int64} {f_kept : Int32} {f_thrown : Int32} {f_head : Nat → Int32} {x1 : Int32} {post : (Int → Int) → Int → Prop} (hw : wpX57_write post (zF f_disk) (zF f_targets) (zF f_bytes) f_first.toInt x1.toInt) :
    Met l yX57_write (ws_ yX57_write cX57_write 3 none) ({ frames := 0, cells := 0, slots := 0, locals := 0 } : Room) (kPc (dC, dI) cl (tX57 d) [.ref (ad 0), .int x1] sz (wX57 ci ad d f_count f_runs f_full f_disk f_later f_open f_laid f_places f_changed f_targets f_bytes f_first f_behind f_numbers f_sectors f_oldest f_newest f_keptNumbers f_keptSectors f_kept f_thrown f_head)) (va_Qv (fun (u : (Nat → Int32) × Int32) => post (zF (u.1)) (u.2).toInt) (kB (dC, dI) cl (tX57 d) (va_A (wX57 ci ad d f_count f_runs f_full f_disk f_later f_open f_laid f_places f_changed f_targets f_bytes f_first f_behind f_numbers f_sectors f_oldest f_newest f_keptNumbers f_keptSectors f_kept f_thrown f_head) sz) (fun u : (Nat → Int32) × Int32 => (wX57 ci ad d f_count f_runs f_full (u.1) f_later f_open f_laid f_places f_changed f_targets f_bytes (u.2) f_behind f_numbers f_sectors f_oldest f_newest f_keptNumbers f_keptSectors f_kept f_thrown f_head))) (va_A (wX57 ci ad d f_count f_runs f_full f_disk f_later f_open f_laid f_places f_changed f_targets f_bytes f_first f_behind f_numbers f_sectors f_oldest f_newest f_keptNumbers f_keptSectors f_kept f_thrown f_head) sz)) 0 0 (va_A (wX57 ci ad d f_count f_runs f_full f_disk f_later f_open f_laid f_places f_changed f_targets f_bytes f_first f_behind f_numbers f_sectors f_oldest f_newest f_keptNumbers f_keptSectors f_kept f_thrown f_head) sz) := by
  refine k_enter (by decide) (Nat.le_of_ble_eq_true rfl) ?_
  intro p e s m below meth c ls X hsz hH hl
  subst hsz
  generalize va_A (wX57 ci ad d f_count f_runs f_full f_disk f_later f_open f_laid f_places f_changed f_targets f_bytes f_first f_behind f_numbers f_sectors f_oldest f_newest f_keptNumbers f_keptSectors f_kept f_thrown f_head) s.heap.size = A at hH ⊢
  have hx := X.1.1
  have hb := X.1.2.1
  have hl : lv_has ls 3 [(0, .ref (ad 0)), (1, .int x1)] := hl
  unfold wpX57_write at hw
  refine lv_iconst (v := 0) hx hb dX57_write_0 (by decide) ?_
  refine lv_istore_n (lv' := [(2, .int 0), (0, .ref (ad 0)), (1, .int x1)]) hx hb dX57_write_1 rfl hl (by decide) rfl (fun ls hl => ?_)
  obtain ⟨fu, hw⟩ := hw
  refine atX57_write_2 hc X ?_ fu 0 f_disk hw _ _ ls hH (lv_sub hl [1, 2, 0] rfl)
  · intro f_disk_17 hw H locs ls hH hl
    refine lv_aload_n hx hb dX57_write_46 rfl (lv_at hl 0 rfl) ?_
    refine lv_dup hx hb dX57_write_47 rfl ?_
    refine k_get X hH in_X57 0 rfl hc 11 (by decide) q6801 rfl dX57_write_48 ?_
    refine lv_iconst (v := 1) hx hb dX57_write_51 (by decide) ?_
    refine lv_iadd hx hb dX57_write_52 ?_
    have e_18 := z_add (z_m (rfl : f_first.toInt = _)) (z_m (rfl : (1 : Int32).toInt = 1))
    have hq_19 := hw.1
    have hw := hw.2
    have e_20 := z_x e_18 hq_19
    refine lv_topi (fun f_first_21 ef_first_21 => ?_)
    have hw := hw f_first_21.toInt (by rw [ef_first_21]; exact e_20)
    refine k_put X hH in_X57 tyX57_ok nmX57 0 rfl hc 11 (by decide) q6801 rfl (ty := .int) rfl rfl rfl (Nat.le_of_ble_eq_true rfl) dX57_write_53 (ws1 := (wX57 ci ad d f_count f_runs f_full f_disk_17 f_later f_open f_laid f_places f_changed f_targets f_bytes f_first_21 f_behind f_numbers f_sectors f_oldest f_newest f_keptNumbers f_keptSectors f_kept f_thrown f_head)) rfl (fun H locs hH => ?_)
    exact k_vret X hH (f_disk_17, f_first_21) hw rfl dX57_write_56
set_option maxHeartbeats 4000000 in
theorem atX57_settle_21 {p : Program} {l : Launch} {e : Env} {s : State} {m : MethodId} {args : Array Value} {below : List Frame} {meth : Method} {c : Code} {dC : Nat → ClassId} {dI : Nat → Nat → Nat} {cl : List vw_C} {ci : Nat} (hc : cl[ci]? = some (RX57, TX57, 22)) {ad : Nat → Nat} {d : Nat → ClassId} {A : Nat → Prop} {post : Int → Int → (Int → Int) → (Int → Int) → Int → Int → Prop} {f_count : Int32} {f_runs : Int32} {f_full : Int32} {f_disk : Nat → Int32} {f_later : Nat → Int32} {f_open : Nat → Int32} {f_laid : Nat → Int32} {f_places : Nat → Int32} {f_changed : Int32} {f_targets : Nat → Int32} {f_bytes : Nat → Int32} {f_keptNumbers : Nat → Int32} {f_keptSectors : Nat → Int64} {f_kept : Int32} {f_thrown : Int32} {f_head : Nat → Int32} (X : kX p s m args meth c cX57_settle 1 RX57 none (dC, dI) cl (tX57 d))     :
    ∀ (f_first : Int32) (f_behind : Int32) (f_numbers : Nat → Int32) (f_sectors : Nat → Int64) (f_oldest : Int32) (f_newest : Int32), wX57_settle_21 post f_first.toInt f_behind.toInt (zF f_numbers) (zG f_sectors) f_newest.toInt → ∀ (H : Heap) (locs : List Loc) (ls : Array Slot), kH (dC, dI) cl A s.heap H locs (wX57 ci ad d f_count f_runs f_full f_disk f_later f_open f_laid f_places f_changed f_targets f_bytes f_first f_behind f_numbers f_sectors f_oldest f_newest f_keptNumbers f_keptSectors f_kept f_thrown f_head) → lv_has ls 1 [(0, .ref (ad 0))] → W p l e ({ frames := 0, cells := 0, slots := 0, locals := 0 } : Room) s m args below meth c H locs 0 0 (MQ below (va_Qv (fun (u : Int32 × Int32 × (Nat → Int32) × (Nat → Int64) × Int32 × Int32) => post (u.1).toInt (u.2.1).toInt (zF (u.2.2.1)) (zG (u.2.2.2.1)) (u.2.2.2.2.1).toInt (u.2.2.2.2.2).toInt) (kB (dC, dI) cl (tX57 d) A (fun u : Int32 × Int32 × (Nat → Int32) × (Nat → Int64) × Int32 × Int32 => (wX57 ci ad d f_count f_runs f_full f_disk f_later f_open f_laid f_places f_changed f_targets f_bytes (u.1) (u.2.1) (u.2.2.1) (u.2.2.2.1) (u.2.2.2.2.1) (u.2.2.2.2.2) f_keptNumbers f_keptSectors f_kept f_thrown f_head))) A) args s 0 0 A) (F0 m 21 ls []) := by
  have hx := X.1.1
  have hb := X.1.2.1
  intro f_first f_behind f_numbers f_sectors f_oldest f_newest hw H locs ls hH hl
  unfold wX57_settle_21 at hw
  refine lv_aload_n hx hb dX57_settle_21 rfl (lv_at hl 0 rfl) ?_
  refine k_get X hH in_X57 0 rfl hc 13 (by decide) q6803 rfl dX57_settle_22 ?_
  refine lv_iconst (v := 0) hx hb dX57_settle_25 (by decide) ?_
  refine lv_aload_n hx hb dX57_settle_26 rfl (lv_at hl 0 rfl) ?_
  refine k_get X hH in_X57 0 rfl hc 13 (by decide) q6803 rfl dX57_settle_27 ?_
  refine lv_aload_n hx hb dX57_settle_30 rfl (lv_at hl 0 rfl) ?_
  refine k_get X hH in_X57 0 rfl hc 16 (by decide) q6806 rfl dX57_settle_31 ?_
  have hq_2 := hw.1
  have hw := hw.2
  refine k_iald X hH 8 7 rfl rfl (z_in (rfl : f_newest.toInt = _) hq_2) dX57_settle_34 ?_
  have e_3 := z_ld (f := f_numbers) (rfl : f_newest.toInt = _) hq_2.1
  refine lv_topi (fun v_4 ev_4 => ?_)
  have hw := hw v_4.toInt (by rw [ev_4]; exact e_3)
  obtain ⟨f_numbers_5, ef_numbers_5⟩ : ∃ y : Nat → Int32, y = upd f_numbers (0 : Int32).toNatClampNeg v_4 := ⟨_, rfl⟩
  refine k_iast X hH 8 7 rfl rfl (by unfold vp_in; decide) dX57_settle_35 ef_numbers_5 (ws1 := (wX57 ci ad d f_count f_runs f_full f_disk f_later f_open f_laid f_places f_changed f_targets f_bytes f_first f_behind f_numbers_5 f_sectors f_oldest f_newest f_keptNumbers f_keptSectors f_kept f_thrown f_head)) rfl (fun H locs hH => ?_)
  have hw := hw (zF f_numbers_5) (by rw [ef_numbers_5]; exact z_st (f := f_numbers) (rfl : (0 : Int32).toInt = 0) (by decide) (rfl : v_4.toInt = _))
  refine lv_aload_n hx hb dX57_settle_36 rfl (lv_at hl 0 rfl) ?_
  refine k_get X hH in_X57 0 rfl hc 14 (by decide) q6804 rfl dX57_settle_37 ?_
  refine lv_iconst (v := 0) hx hb dX57_settle_40 (by decide) ?_
  refine lv_aload_n hx hb dX57_settle_41 rfl (lv_at hl 0 rfl) ?_
  refine k_get X hH in_X57 0 rfl hc 14 (by decide) q6804 rfl dX57_settle_42 ?_
  refine lv_aload_n hx hb dX57_settle_45 rfl (lv_at hl 0 rfl) ?_
  refine k_get X hH in_X57 0 rfl hc 16 (by decide) q6806 rfl dX57_settle_46 ?_
  refine k_lald X hH 9 8 rfl rfl (z_in (rfl : f_newest.toInt = _) hq_2) dX57_settle_49 ?_
  have e_6 := z_ldL (f := f_sectors) (rfl : f_newest.toInt = _) hq_2.1
  refine lv_topl (fun v_7 ev_7 => ?_)
  have hw := hw v_7.toInt (by rw [ev_7]; exact e_6)
  obtain ⟨f_sectors_8, ef_sectors_8⟩ : ∃ y : Nat → Int64, y = vp_updL f_sectors (0 : Int32).toNatClampNeg v_7 := ⟨_, rfl⟩
  refine k_last X hH 9 8 rfl rfl (by unfold vp_in; decide) dX57_settle_50 ef_sectors_8 (ws1 := (wX57 ci ad d f_count f_runs f_full f_disk f_later f_open f_laid f_places f_changed f_targets f_bytes f_first f_behind f_numbers_5 f_sectors_8 f_oldest f_newest f_keptNumbers f_keptSectors f_kept f_thrown f_head)) rfl (fun H locs hH => ?_)
  have hw := hw (zG f_sectors_8) (by rw [ef_sectors_8]; exact z_stL (f := f_sectors) (rfl : (0 : Int32).toInt = 0) (by decide) (rfl : v_7.toInt = _))
  refine lv_aload_n hx hb dX57_settle_51 rfl (lv_at hl 0 rfl) ?_
  refine lv_iconst (v := 0) hx hb dX57_settle_52 (by decide) ?_
  refine k_put X hH in_X57 tyX57_ok nmX57 0 rfl hc 15 (by decide) q6805 rfl (ty := .int) rfl rfl rfl (Nat.le_of_ble_eq_true rfl) dX57_settle_53 (ws1 := (wX57 ci ad d f_count f_runs f_full f_disk f_later f_open f_laid f_places f_changed f_targets f_bytes f_first f_behind f_numbers_5 f_sectors_8 0 f_newest f_keptNumbers f_keptSectors f_kept f_thrown f_head)) rfl (fun H locs hH => ?_)
  refine lv_aload_n hx hb dX57_settle_56 rfl (lv_at hl 0 rfl) ?_
  refine lv_iconst (v := 0) hx hb dX57_settle_57 (by decide) ?_
  refine k_put X hH in_X57 tyX57_ok nmX57 0 rfl hc 16 (by decide) q6806 rfl (ty := .int) rfl rfl rfl (Nat.le_of_ble_eq_true rfl) dX57_settle_58 (ws1 := (wX57 ci ad d f_count f_runs f_full f_disk f_later f_open f_laid f_places f_changed f_targets f_bytes f_first f_behind f_numbers_5 f_sectors_8 0 0 f_keptNumbers f_keptSectors f_kept f_thrown f_head)) rfl (fun H locs hH => ?_)
  exact k_vret X hH (f_first, f_behind, f_numbers_5, f_sectors_8, 0, 0) hw rfl dX57_settle_61
set_option maxHeartbeats 4000000 in
theorem walkX57_settle {l : Launch} {dC : Nat → ClassId} {dI : Nat → Nat → Nat} {cl : List vw_C} {ci : Nat} (hc : cl[ci]? = some (RX57, TX57, 22)) {ad : Nat → Nat} {d : Nat → ClassId} {sz : Nat} {f_count : Int32} {f_runs : Int32} {f_full : Int32} {f_disk : Nat → Int32} {f_later : Nat → Int32} {f_open : Nat → Int32} {f_laid : Nat → Int32} {f_places : Nat → Int32} {f_changed : Int32} {f_targets : Nat → Int32} {f_bytes : Nat → Int32} {f_first : Int32} {f_behind : Int32} {f_numbers : Nat → Int32} {f_sectors : Nat → Int64} {f_oldest : Int32} {f_newest : Int32} {f_keptNumbers : Nat → Int32} {f_keptSectors : Nat → Int64} {f_kept : Int32} {f_thrown : Int32} {f_head : Nat → Int32}  {post : Int → Int → (Int → Int) → (Int → Int) → Int → Int → Prop} (hw : wpX57_settle post f_first.toInt f_behind.toInt (zF f_numbers) (zG f_sectors) f_newest.toInt ) :
    Met l yX57_settle (ws_ yX57_settle cX57_settle 1 none) ({ frames := 0, cells := 0, slots := 0, locals := 0 } : Room) (kPc (dC, dI) cl (tX57 d) [.ref (ad 0)] sz (wX57 ci ad d f_count f_runs f_full f_disk f_later f_open f_laid f_places f_changed f_targets f_bytes f_first f_behind f_numbers f_sectors f_oldest f_newest f_keptNumbers f_keptSectors f_kept f_thrown f_head)) (va_Qv (fun (u : Int32 × Int32 × (Nat → Int32) × (Nat → Int64) × Int32 × Int32) => post (u.1).toInt (u.2.1).toInt (zF (u.2.2.1)) (zG (u.2.2.2.1)) (u.2.2.2.2.1).toInt (u.2.2.2.2.2).toInt) (kB (dC, dI) cl (tX57 d) (va_A (wX57 ci ad d f_count f_runs f_full f_disk f_later f_open f_laid f_places f_changed f_targets f_bytes f_first f_behind f_numbers f_sectors f_oldest f_newest f_keptNumbers f_keptSectors f_kept f_thrown f_head) sz) (fun u : Int32 × Int32 × (Nat → Int32) × (Nat → Int64) × Int32 × Int32 => (wX57 ci ad d f_count f_runs f_full f_disk f_later f_open f_laid f_places f_changed f_targets f_bytes (u.1) (u.2.1) (u.2.2.1) (u.2.2.2.1) (u.2.2.2.2.1) (u.2.2.2.2.2) f_keptNumbers f_keptSectors f_kept f_thrown f_head))) (va_A (wX57 ci ad d f_count f_runs f_full f_disk f_later f_open f_laid f_places f_changed f_targets f_bytes f_first f_behind f_numbers f_sectors f_oldest f_newest f_keptNumbers f_keptSectors f_kept f_thrown f_head) sz)) 0 0 (va_A (wX57 ci ad d f_count f_runs f_full f_disk f_later f_open f_laid f_places f_changed f_targets f_bytes f_first f_behind f_numbers f_sectors f_oldest f_newest f_keptNumbers f_keptSectors f_kept f_thrown f_head) sz) := by
  refine k_enter (by decide) (Nat.le_of_ble_eq_true rfl) ?_
  intro p e s m below meth c ls X hsz hH hl
  subst hsz
  generalize va_A (wX57 ci ad d f_count f_runs f_full f_disk f_later f_open f_laid f_places f_changed f_targets f_bytes f_first f_behind f_numbers f_sectors f_oldest f_newest f_keptNumbers f_keptSectors f_kept f_thrown f_head) s.heap.size = A at hH ⊢
  have hx := X.1.1
  have hb := X.1.2.1
  have hl : lv_has ls 1 [(0, .ref (ad 0))] := hl
  unfold wpX57_settle at hw
  refine lv_aload_n hx hb dX57_settle_0 rfl (lv_at hl 0 rfl) ?_
  refine k_get X hH in_X57 0 rfl hc 11 (by decide) q6801 rfl dX57_settle_1 ?_
  refine lv_aload_n hx hb dX57_settle_4 rfl (lv_at hl 0 rfl) ?_
  refine k_get X hH in_X57 0 rfl hc 12 (by decide) q6802 rfl dX57_settle_5 ?_
  refine lv_icmp_ne (tgt := 21) hx hb dX57_settle_8 (by decide) (fun c_1 => ?_) (fun c_1 => ?_)
  · have hw := hw.2 (z_ne (rfl : f_first.toInt = _) (rfl : f_behind.toInt = _) c_1)
    exact atX57_settle_21 hc X f_first f_behind f_numbers f_sectors f_oldest f_newest hw _ _ ls hH (lv_sub hl [0] rfl)
  · have hw := hw.1 (z_eq (rfl : f_first.toInt = _) (rfl : f_behind.toInt = _) c_1)
    refine lv_aload_n hx hb dX57_settle_11 rfl (lv_at hl 0 rfl) ?_
    refine lv_iconst (v := 0) hx hb dX57_settle_12 (by decide) ?_
    refine k_put X hH in_X57 tyX57_ok nmX57 0 rfl hc 11 (by decide) q6801 rfl (ty := .int) rfl rfl rfl (Nat.le_of_ble_eq_true rfl) dX57_settle_13 (ws1 := (wX57 ci ad d f_count f_runs f_full f_disk f_later f_open f_laid f_places f_changed f_targets f_bytes 0 f_behind f_numbers f_sectors f_oldest f_newest f_keptNumbers f_keptSectors f_kept f_thrown f_head)) rfl (fun H locs hH => ?_)
    refine lv_aload_n hx hb dX57_settle_16 rfl (lv_at hl 0 rfl) ?_
    refine lv_iconst (v := 0) hx hb dX57_settle_17 (by decide) ?_
    refine k_put X hH in_X57 tyX57_ok nmX57 0 rfl hc 12 (by decide) q6802 rfl (ty := .int) rfl rfl rfl (Nat.le_of_ble_eq_true rfl) dX57_settle_18 (ws1 := (wX57 ci ad d f_count f_runs f_full f_disk f_later f_open f_laid f_places f_changed f_targets f_bytes 0 0 f_numbers f_sectors f_oldest f_newest f_keptNumbers f_keptSectors f_kept f_thrown f_head)) rfl (fun H locs hH => ?_)
    exact atX57_settle_21 hc X 0 0 f_numbers f_sectors f_oldest f_newest hw _ _ ls hH (lv_sub hl [0] rfl)
set_option maxHeartbeats 4000000 in
theorem atX57_sync_10 {p : Program} {l : Launch} {e : Env} {s : State} {m : MethodId} {args : Array Value} {below : List Frame} {meth : Method} {c : Code} {dC : Nat → ClassId} {dI : Nat → Nat → Nat} {cl : List vw_C} {ci : Nat} (hc : cl[ci]? = some (RX57, TX57, 22)) {ad : Nat → Nat} {d : Nat → ClassId} {A : Nat → Prop} {post : Int → (Int → Int) → Int → Int → (Int → Int) → (Int → Int) → Int → Int → Prop} {f_count : Int32} {f_runs : Int32} {f_full : Int32} {f_later : Nat → Int32} {f_open : Nat → Int32} {f_laid : Nat → Int32} {f_places : Nat → Int32} {f_changed : Int32} {f_targets : Nat → Int32} {f_bytes : Nat → Int32} {f_keptNumbers : Nat → Int32} {f_keptSectors : Nat → Int64} {f_kept : Int32} {f_thrown : Int32} {f_head : Nat → Int32} (X : kX p s m args meth c cX57_sync 1 RX57 (some .int) (dC, dI) cl (tX57 d)) {K30 : (Int → Int) → Int → Prop}  {f_behind : Int32} {f_numbers : Nat → Int32} {f_sectors : Nat → Int64} {f_oldest : Int32} {f_newest : Int32} (hk30 : ∀ (f_disk : Nat → Int32) (f_first : Int32), K30 (zF f_disk) f_first.toInt → ∀ (H : Heap) (locs : List Loc) (ls : Array Slot), kH (dC, dI) cl A s.heap H locs (wX57 ci ad d f_count f_runs f_full f_disk f_later f_open f_laid f_places f_changed f_targets f_bytes f_first f_behind f_numbers f_sectors f_oldest f_newest f_keptNumbers f_keptSectors f_kept f_thrown f_head) → lv_has ls 1 [(0, .ref (ad 0))] → W p l e ({ frames := 1, cells := 0, slots := 0, locals := 22 } : Room) s m args below meth c H locs 0 0 (MQ below (va_Qi (fun (r : Int32) (u : (Nat → Int32) × Int32 × Int32 × (Nat → Int32) × (Nat → Int64) × Int32 × Int32) => post r.toInt (zF (u.1)) (u.2.1).toInt (u.2.2.1).toInt (zF (u.2.2.2.1)) (zG (u.2.2.2.2.1)) (u.2.2.2.2.2.1).toInt (u.2.2.2.2.2.2).toInt) (kB (dC, dI) cl (tX57 d) A (fun u : (Nat → Int32) × Int32 × Int32 × (Nat → Int32) × (Nat → Int64) × Int32 × Int32 => (wX57 ci ad d f_count f_runs f_full (u.1) f_later f_open f_laid f_places f_changed f_targets f_bytes (u.2.1) (u.2.2.1) (u.2.2.2.1) (u.2.2.2.2.1) (u.2.2.2.2.2.1) (u.2.2.2.2.2.2) f_keptNumbers f_keptSectors f_kept f_thrown f_head))) A) args s 0 0 A) (F0 m 30 ls [])) :
    ∀ (nn : Nat) (f_disk : Nat → Int32) (f_first : Int32), wX57_sync_10 K30 (zF f_targets) (zF f_bytes) f_behind.toInt nn (zF f_disk) f_first.toInt → ∀ (H : Heap) (locs : List Loc) (ls : Array Slot), kH (dC, dI) cl A s.heap H locs (wX57 ci ad d f_count f_runs f_full f_disk f_later f_open f_laid f_places f_changed f_targets f_bytes f_first f_behind f_numbers f_sectors f_oldest f_newest f_keptNumbers f_keptSectors f_kept f_thrown f_head) → lv_has ls 1 [(0, .ref (ad 0))] → W p l e ({ frames := 1, cells := 0, slots := 0, locals := 22 } : Room) s m args below meth c H locs 0 0 (MQ below (va_Qi (fun (r : Int32) (u : (Nat → Int32) × Int32 × Int32 × (Nat → Int32) × (Nat → Int64) × Int32 × Int32) => post r.toInt (zF (u.1)) (u.2.1).toInt (u.2.2.1).toInt (zF (u.2.2.2.1)) (zG (u.2.2.2.2.1)) (u.2.2.2.2.2.1).toInt (u.2.2.2.2.2.2).toInt) (kB (dC, dI) cl (tX57 d) A (fun u : (Nat → Int32) × Int32 × Int32 × (Nat → Int32) × (Nat → Int64) × Int32 × Int32 => (wX57 ci ad d f_count f_runs f_full (u.1) f_later f_open f_laid f_places f_changed f_targets f_bytes (u.2.1) (u.2.2.1) (u.2.2.2.1) (u.2.2.2.2.1) (u.2.2.2.2.2.1) (u.2.2.2.2.2.2) f_keptNumbers f_keptSectors f_kept f_thrown f_head))) A) args s 0 0 A) (F0 m 10 ls []) := by
  have hx := X.1.1
  have hb := X.1.2.1
  intro nn
  induction nn with
  | zero =>
    intro f_disk f_first hw
    exact False.elim hw
  | succ n ih =>
    intro f_disk f_first hw H locs ls hH hl
    rw [wX57_sync_10] at hw
    refine lv_aload_n hx hb dX57_sync_10 rfl (lv_at hl 0 rfl) ?_
    refine k_get X hH in_X57 0 rfl hc 11 (by decide) q6801 rfl dX57_sync_11 ?_
    refine lv_aload_n hx hb dX57_sync_14 rfl (lv_at hl 0 rfl) ?_
    refine k_get X hH in_X57 0 rfl hc 12 (by decide) q6802 rfl dX57_sync_15 ?_
    refine lv_icmp_ge (tgt := 30) hx hb dX57_sync_18 (by decide) (fun c_2 => ?_) (fun c_2 => ?_)
    · have hw := hw.1 (z_le (rfl : f_behind.toInt = _) (rfl : f_first.toInt = _) c_2)
      exact hk30 f_disk f_first hw _ _ ls hH (lv_sub hl [0] rfl)
    · have hw := hw.2 (z_nle (rfl : f_behind.toInt = _) (rfl : f_first.toInt = _) c_2)
      refine lv_aload_n hx hb dX57_sync_21 rfl (lv_at hl 0 rfl) ?_
      refine lv_bipush (v := 32) hx hb dX57_sync_22 (by decide) ?_
      refine k_v0 hH (k_runV (As := [.int 32]) (rest := []) X hH.1 hH.2.1 X.2.2.2 (walkX57_write hc (x1 := 32) (f_count := f_count) (f_runs := f_runs) (f_full := f_full) (f_disk := f_disk) (f_later := f_later) (f_open := f_open) (f_laid := f_laid) (f_places := f_places) (f_changed := f_changed) (f_targets := f_targets) (f_bytes := f_bytes) (f_first := f_first) (f_behind := f_behind) (f_numbers := f_numbers) (f_sectors := f_sectors) (f_oldest := f_oldest) (f_newest := f_newest) (f_keptNumbers := f_keptNumbers) (f_keptSectors := f_keptSectors) (f_kept := f_kept) (f_thrown := f_thrown) (f_head := f_head) hw) (cwV 1 X.1.2.2.2.2 gX57_158 rfl rfl rfl hX57_write ⟨Nat.le_of_ble_eq_true rfl, Nat.le_of_ble_eq_true rfl⟩) hc (q0 := 0) rfl rfl hl.1 rfl (Nat.le_of_ble_eq_true rfl) dX57_sync_24 ⟨Nat.le_refl 0, Nat.le_refl 0⟩) (fun u H locs hw hH => ?_)
      obtain ⟨f_disk_3, f_first_4⟩ := u
      have hH : kH (dC, dI) cl A s.heap H locs (wX57 ci ad d f_count f_runs f_full f_disk_3 f_later f_open f_laid f_places f_changed f_targets f_bytes f_first_4 f_behind f_numbers f_sectors f_oldest f_newest f_keptNumbers f_keptSectors f_kept f_thrown f_head) := hH
      refine lv_goto (tgt := 10) hx hb dX57_sync_27 (by decide) ?_
      exact ih f_disk_3 f_first_4 hw _ _ ls hH (lv_sub hl [0] rfl)
set_option maxHeartbeats 4000000 in
theorem walkX57_sync {l : Launch} {dC : Nat → ClassId} {dI : Nat → Nat → Nat} {cl : List vw_C} {ci : Nat} (hc : cl[ci]? = some (RX57, TX57, 22)) {ad : Nat → Nat} {d : Nat → ClassId} {sz : Nat} {f_count : Int32} {f_runs : Int32} {f_full : Int32} {f_disk : Nat → Int32} {f_later : Nat → Int32} {f_open : Nat → Int32} {f_laid : Nat → Int32} {f_places : Nat → Int32} {f_changed : Int32} {f_targets : Nat → Int32} {f_bytes : Nat → Int32} {f_first : Int32} {f_behind : Int32} {f_numbers : Nat → Int32} {f_sectors : Nat → Int64} {f_oldest : Int32} {f_newest : Int32} {f_keptNumbers : Nat → Int32} {f_keptSectors : Nat → Int64} {f_kept : Int32} {f_thrown : Int32} {f_head : Nat → Int32}  {post : Int → (Int → Int) → Int → Int → (Int → Int) → (Int → Int) → Int → Int → Prop} (hw : wpX57_sync post f_runs.toInt (zF f_disk) (zF f_targets) (zF f_bytes) f_first.toInt f_behind.toInt (zF f_numbers) (zG f_sectors) f_oldest.toInt f_newest.toInt ) :
    Met l yX57_sync (ws_ yX57_sync cX57_sync 1 (some .int)) ({ frames := 1, cells := 0, slots := 0, locals := 22 } : Room) (kPc (dC, dI) cl (tX57 d) [.ref (ad 0)] sz (wX57 ci ad d f_count f_runs f_full f_disk f_later f_open f_laid f_places f_changed f_targets f_bytes f_first f_behind f_numbers f_sectors f_oldest f_newest f_keptNumbers f_keptSectors f_kept f_thrown f_head)) (va_Qi (fun (r : Int32) (u : (Nat → Int32) × Int32 × Int32 × (Nat → Int32) × (Nat → Int64) × Int32 × Int32) => post r.toInt (zF (u.1)) (u.2.1).toInt (u.2.2.1).toInt (zF (u.2.2.2.1)) (zG (u.2.2.2.2.1)) (u.2.2.2.2.2.1).toInt (u.2.2.2.2.2.2).toInt) (kB (dC, dI) cl (tX57 d) (va_A (wX57 ci ad d f_count f_runs f_full f_disk f_later f_open f_laid f_places f_changed f_targets f_bytes f_first f_behind f_numbers f_sectors f_oldest f_newest f_keptNumbers f_keptSectors f_kept f_thrown f_head) sz) (fun u : (Nat → Int32) × Int32 × Int32 × (Nat → Int32) × (Nat → Int64) × Int32 × Int32 => (wX57 ci ad d f_count f_runs f_full (u.1) f_later f_open f_laid f_places f_changed f_targets f_bytes (u.2.1) (u.2.2.1) (u.2.2.2.1) (u.2.2.2.2.1) (u.2.2.2.2.2.1) (u.2.2.2.2.2.2) f_keptNumbers f_keptSectors f_kept f_thrown f_head))) (va_A (wX57 ci ad d f_count f_runs f_full f_disk f_later f_open f_laid f_places f_changed f_targets f_bytes f_first f_behind f_numbers f_sectors f_oldest f_newest f_keptNumbers f_keptSectors f_kept f_thrown f_head) sz)) 0 0 (va_A (wX57 ci ad d f_count f_runs f_full f_disk f_later f_open f_laid f_places f_changed f_targets f_bytes f_first f_behind f_numbers f_sectors f_oldest f_newest f_keptNumbers f_keptSectors f_kept f_thrown f_head) sz) := by
  refine k_enter (by decide) (Nat.le_of_ble_eq_true rfl) ?_
  intro p e s m below meth c ls X hsz hH hl
  subst hsz
  generalize va_A (wX57 ci ad d f_count f_runs f_full f_disk f_later f_open f_laid f_places f_changed f_targets f_bytes f_first f_behind f_numbers f_sectors f_oldest f_newest f_keptNumbers f_keptSectors f_kept f_thrown f_head) s.heap.size = A at hH ⊢
  have hx := X.1.1
  have hb := X.1.2.1
  have hl : lv_has ls 1 [(0, .ref (ad 0))] := hl
  unfold wpX57_sync at hw
  refine lv_aload_n hx hb dX57_sync_0 rfl (lv_at hl 0 rfl) ?_
  refine k_get X hH in_X57 0 rfl hc 1 (by decide) q6791 rfl dX57_sync_1 ?_
  refine lv_if_ne (tgt := 10) hx hb dX57_sync_4 (by decide) (fun c_1 => ?_) (fun c_1 => ?_)
  · have hw := hw.2 (z_ne (rfl : f_runs.toInt = _) (rfl : (0 : Int32).toInt = 0) c_1)
    obtain ⟨fu, hw⟩ := hw
    refine atX57_sync_10 hc X ?_ fu f_disk f_first hw _ _ ls hH (lv_sub hl [0] rfl)
    · intro f_disk_5 f_first_6 hw H locs ls hH hl
      refine lv_aload_n hx hb dX57_sync_30 rfl (lv_at hl 0 rfl) ?_
      refine k_v0 hH (k_runV (As := []) (rest := []) X hH.1 hH.2.1 X.2.2.2 (walkX57_settle hc (f_count := f_count) (f_runs := f_runs) (f_full := f_full) (f_disk := f_disk_5) (f_later := f_later) (f_open := f_open) (f_laid := f_laid) (f_places := f_places) (f_changed := f_changed) (f_targets := f_targets) (f_bytes := f_bytes) (f_first := f_first_6) (f_behind := f_behind) (f_numbers := f_numbers) (f_sectors := f_sectors) (f_oldest := f_oldest) (f_newest := f_newest) (f_keptNumbers := f_keptNumbers) (f_keptSectors := f_keptSectors) (f_kept := f_kept) (f_thrown := f_thrown) (f_head := f_head) hw) (cwV 0 X.1.2.2.2.2 gX57_162 rfl rfl rfl hX57_settle ⟨Nat.le_of_ble_eq_true rfl, Nat.le_of_ble_eq_true rfl⟩) hc (q0 := 0) rfl rfl hl.1 rfl (Nat.le_of_ble_eq_true rfl) dX57_sync_31 ⟨Nat.le_refl 0, Nat.le_refl 0⟩) (fun u H locs hw hH => ?_)
      obtain ⟨f_first_7, f_behind_8, f_numbers_9, f_sectors_10, f_oldest_11, f_newest_12⟩ := u
      have hH : kH (dC, dI) cl A s.heap H locs (wX57 ci ad d f_count f_runs f_full f_disk_5 f_later f_open f_laid f_places f_changed f_targets f_bytes f_first_7 f_behind_8 f_numbers_9 f_sectors_10 f_oldest_11 f_newest_12 f_keptNumbers f_keptSectors f_kept f_thrown f_head) := hH
      refine lv_aload_n hx hb dX57_sync_34 rfl (lv_at hl 0 rfl) ?_
      refine k_get X hH in_X57 0 rfl hc 13 (by decide) q6803 rfl dX57_sync_35 ?_
      refine lv_aload_n hx hb dX57_sync_38 rfl (lv_at hl 0 rfl) ?_
      refine k_get X hH in_X57 0 rfl hc 16 (by decide) q6806 rfl dX57_sync_39 ?_
      have hq_13 := hw.1
      have hw := hw.2
      refine k_iald X hH 8 7 rfl rfl (z_in (rfl : f_newest_12.toInt = _) hq_13) dX57_sync_42 ?_
      have e_14 := z_ld (f := f_numbers_9) (rfl : f_newest_12.toInt = _) hq_13.1
      exact k_iret (v := f_numbers_9 f_newest_12.toNatClampNeg) X hH (f_disk_5, f_first_7, f_behind_8, f_numbers_9, f_sectors_10, f_oldest_11, f_newest_12) (by rw [show (f_numbers_9 f_newest_12.toNatClampNeg : Int32).toInt = _ from e_14]; exact hw) rfl rfl dX57_sync_43
  · have hw := hw.1 (z_eq (rfl : f_runs.toInt = _) (rfl : (0 : Int32).toInt = 0) c_1)
    refine lv_bipush (v := (-3)) hx hb dX57_sync_7 (by decide) ?_
    exact k_iret (v := (-3)) X hH (f_disk, f_first, f_behind, f_numbers, f_sectors, f_oldest, f_newest) hw rfl rfl dX57_sync_9
set_option maxHeartbeats 4000000 in
theorem atX57_cut_10 {p : Program} {l : Launch} {e : Env} {s : State} {m : MethodId} {args : Array Value} {below : List Frame} {meth : Method} {c : Code} {dC : Nat → ClassId} {dI : Nat → Nat → Nat} {cl : List vw_C} {ci : Nat} (hc : cl[ci]? = some (RX57, TX57, 22)) {ad : Nat → Nat} {d : Nat → ClassId} {A : Nat → Prop} {post : Int → (Int → Int) → (Int → Int) → (Int → Int) → (Int → Int) → Int → Int → Int → (Int → Int) → (Int → Int) → Int → Int → Int → Prop} {f_count : Int32} {f_full : Int32} {f_open : Nat → Int32} {f_targets : Nat → Int32} {f_bytes : Nat → Int32} {f_keptNumbers : Nat → Int32} {f_keptSectors : Nat → Int64} {f_thrown : Int32} {f_head : Nat → Int32} (X : kX p s m args meth c cX57_cut 4 RX57 none (dC, dI) cl (tX57 d)) {K38 : (Int → Int) → Int → Prop} {x1 : Int32} {x2 : Int32} {f_runs : Int32} {f_later : Nat → Int32} {f_laid : Nat → Int32} {f_places : Nat → Int32} {f_changed : Int32} {f_behind : Int32} {f_numbers : Nat → Int32} {f_sectors : Nat → Int64} {f_oldest : Int32} {f_newest : Int32} {f_kept : Int32} (hk38 : ∀ (f_disk : Nat → Int32) (f_first : Int32), K38 (zF f_disk) f_first.toInt → ∀ (H : Heap) (locs : List Loc) (ls : Array Slot), kH (dC, dI) cl A s.heap H locs (wX57 ci ad d f_count f_runs f_full f_disk f_later f_open f_laid f_places f_changed f_targets f_bytes f_first f_behind f_numbers f_sectors f_oldest f_newest f_keptNumbers f_keptSectors f_kept f_thrown f_head) → lv_has ls 4 [(0, .ref (ad 0)), (2, .int x2)] → W p l e ({ frames := 1, cells := 0, slots := 0, locals := 24 } : Room) s m args below meth c H locs 0 0 (MQ below (va_Qv (fun (u : Int32 × (Nat → Int32) × (Nat → Int32) × (Nat → Int32) × (Nat → Int32) × Int32 × Int32 × Int32 × (Nat → Int32) × (Nat → Int64) × Int32 × Int32 × Int32) => post (u.1).toInt (zF (u.2.1)) (zF (u.2.2.1)) (zF (u.2.2.2.1)) (zF (u.2.2.2.2.1)) (u.2.2.2.2.2.1).toInt (u.2.2.2.2.2.2.1).toInt (u.2.2.2.2.2.2.2.1).toInt (zF (u.2.2.2.2.2.2.2.2.1)) (zG (u.2.2.2.2.2.2.2.2.2.1)) (u.2.2.2.2.2.2.2.2.2.2.1).toInt (u.2.2.2.2.2.2.2.2.2.2.2.1).toInt (u.2.2.2.2.2.2.2.2.2.2.2.2).toInt) (kB (dC, dI) cl (tX57 d) A (fun u : Int32 × (Nat → Int32) × (Nat → Int32) × (Nat → Int32) × (Nat → Int32) × Int32 × Int32 × Int32 × (Nat → Int32) × (Nat → Int64) × Int32 × Int32 × Int32 => (wX57 ci ad d f_count (u.1) f_full (u.2.1) (u.2.2.1) f_open (u.2.2.2.1) (u.2.2.2.2.1) (u.2.2.2.2.2.1) f_targets f_bytes (u.2.2.2.2.2.2.1) (u.2.2.2.2.2.2.2.1) (u.2.2.2.2.2.2.2.2.1) (u.2.2.2.2.2.2.2.2.2.1) (u.2.2.2.2.2.2.2.2.2.2.1) (u.2.2.2.2.2.2.2.2.2.2.2.1) f_keptNumbers f_keptSectors (u.2.2.2.2.2.2.2.2.2.2.2.2) f_thrown f_head))) A) args s 0 0 A) (F0 m 38 ls [])) :
    ∀ (nn : Nat) (x3 : Int32) (f_disk : Nat → Int32) (f_first : Int32), wX57_cut_10 K38 x1.toInt (zF f_targets) (zF f_bytes) f_behind.toInt nn x3.toInt (zF f_disk) f_first.toInt → ∀ (H : Heap) (locs : List Loc) (ls : Array Slot), kH (dC, dI) cl A s.heap H locs (wX57 ci ad d f_count f_runs f_full f_disk f_later f_open f_laid f_places f_changed f_targets f_bytes f_first f_behind f_numbers f_sectors f_oldest f_newest f_keptNumbers f_keptSectors f_kept f_thrown f_head) → lv_has ls 4 [(0, .ref (ad 0)), (1, .int x1), (2, .int x2), (3, .int x3)] → W p l e ({ frames := 1, cells := 0, slots := 0, locals := 24 } : Room) s m args below meth c H locs 0 0 (MQ below (va_Qv (fun (u : Int32 × (Nat → Int32) × (Nat → Int32) × (Nat → Int32) × (Nat → Int32) × Int32 × Int32 × Int32 × (Nat → Int32) × (Nat → Int64) × Int32 × Int32 × Int32) => post (u.1).toInt (zF (u.2.1)) (zF (u.2.2.1)) (zF (u.2.2.2.1)) (zF (u.2.2.2.2.1)) (u.2.2.2.2.2.1).toInt (u.2.2.2.2.2.2.1).toInt (u.2.2.2.2.2.2.2.1).toInt (zF (u.2.2.2.2.2.2.2.2.1)) (zG (u.2.2.2.2.2.2.2.2.2.1)) (u.2.2.2.2.2.2.2.2.2.2.1).toInt (u.2.2.2.2.2.2.2.2.2.2.2.1).toInt (u.2.2.2.2.2.2.2.2.2.2.2.2).toInt) (kB (dC, dI) cl (tX57 d) A (fun u : Int32 × (Nat → Int32) × (Nat → Int32) × (Nat → Int32) × (Nat → Int32) × Int32 × Int32 × Int32 × (Nat → Int32) × (Nat → Int64) × Int32 × Int32 × Int32 => (wX57 ci ad d f_count (u.1) f_full (u.2.1) (u.2.2.1) f_open (u.2.2.2.1) (u.2.2.2.2.1) (u.2.2.2.2.2.1) f_targets f_bytes (u.2.2.2.2.2.2.1) (u.2.2.2.2.2.2.2.1) (u.2.2.2.2.2.2.2.2.1) (u.2.2.2.2.2.2.2.2.2.1) (u.2.2.2.2.2.2.2.2.2.2.1) (u.2.2.2.2.2.2.2.2.2.2.2.1) f_keptNumbers f_keptSectors (u.2.2.2.2.2.2.2.2.2.2.2.2) f_thrown f_head))) A) args s 0 0 A) (F0 m 10 ls []) := by
  have hx := X.1.1
  have hb := X.1.2.1
  intro nn
  induction nn with
  | zero =>
    intro x3 f_disk f_first hw
    exact False.elim hw
  | succ n ih =>
    intro x3 f_disk f_first hw H locs ls hH hl
    rw [wX57_cut_10] at hw
    refine lv_iload_n hx hb dX57_cut_10 rfl (lv_at hl 3 rfl) ?_
    refine lv_iload_n hx hb dX57_cut_11 rfl (lv_at hl 1 rfl) ?_
    refine lv_icmp_ge (tgt := 38) hx hb dX57_cut_12 (by decide) (fun c_2 => ?_) (fun c_2 => ?_)
    · have hw := hw.1 (z_le (rfl : x1.toInt = _) (rfl : x3.toInt = _) c_2)
      exact hk38 f_disk f_first hw _ _ ls hH (lv_sub hl [0, 2] rfl)
    · have hw := hw.2 (z_nle (rfl : x1.toInt = _) (rfl : x3.toInt = _) c_2)
      refine lv_aload_n hx hb dX57_cut_15 rfl (lv_at hl 0 rfl) ?_
      refine k_get X hH in_X57 0 rfl hc 11 (by decide) q6801 rfl dX57_cut_16 ?_
      refine lv_aload_n hx hb dX57_cut_19 rfl (lv_at hl 0 rfl) ?_
      refine k_get X hH in_X57 0 rfl hc 12 (by decide) q6802 rfl dX57_cut_20 ?_
      refine lv_icmp_ge (tgt := 38) hx hb dX57_cut_23 (by decide) (fun c_3 => ?_) (fun c_3 => ?_)
      · have hw := hw.1 (z_le (rfl : f_behind.toInt = _) (rfl : f_first.toInt = _) c_3)
        exact hk38 f_disk f_first hw _ _ ls hH (lv_sub hl [0, 2] rfl)
      · have hw := hw.2 (z_nle (rfl : f_behind.toInt = _) (rfl : f_first.toInt = _) c_3)
        refine lv_aload_n hx hb dX57_cut_26 rfl (lv_at hl 0 rfl) ?_
        refine lv_bipush (v := 32) hx hb dX57_cut_27 (by decide) ?_
        refine k_v0 hH (k_runV (As := [.int 32]) (rest := []) X hH.1 hH.2.1 X.2.2.2 (walkX57_write hc (x1 := 32) (f_count := f_count) (f_runs := f_runs) (f_full := f_full) (f_disk := f_disk) (f_later := f_later) (f_open := f_open) (f_laid := f_laid) (f_places := f_places) (f_changed := f_changed) (f_targets := f_targets) (f_bytes := f_bytes) (f_first := f_first) (f_behind := f_behind) (f_numbers := f_numbers) (f_sectors := f_sectors) (f_oldest := f_oldest) (f_newest := f_newest) (f_keptNumbers := f_keptNumbers) (f_keptSectors := f_keptSectors) (f_kept := f_kept) (f_thrown := f_thrown) (f_head := f_head) hw) (cwV 1 X.1.2.2.2.2 gX57_158 rfl rfl rfl hX57_write ⟨Nat.le_of_ble_eq_true rfl, Nat.le_of_ble_eq_true rfl⟩) hc (q0 := 0) rfl rfl hl.1 rfl (Nat.le_of_ble_eq_true rfl) dX57_cut_29 ⟨Nat.le_refl 0, Nat.le_refl 0⟩) (fun u H locs hw hH => ?_)
        obtain ⟨f_disk_4, f_first_5⟩ := u
        have hH : kH (dC, dI) cl A s.heap H locs (wX57 ci ad d f_count f_runs f_full f_disk_4 f_later f_open f_laid f_places f_changed f_targets f_bytes f_first_5 f_behind f_numbers f_sectors f_oldest f_newest f_keptNumbers f_keptSectors f_kept f_thrown f_head) := hH
        have hq_7 := hw.1
        have hw := hw.2
        obtain ⟨x3_6, ex3_6⟩ : ∃ y : Int32, y = x3 + 1 := ⟨_, rfl⟩
        have hw := hw x3_6.toInt (by rw [ex3_6]; exact (z_x (z_add (z_m (rfl : x3.toInt = _)) (z_m (rfl : (1 : Int32).toInt = 1))) hq_7))
        refine lv_iinc (v := x3_6) (lv' := [(3, .int x3_6), (0, .ref (ad 0)), (1, .int x1), (2, .int x2)]) hx hb dX57_cut_32 hl (k := 3) rfl (by rw [ex3_6]; rfl) (by decide) rfl (fun ls hl => ?_)
        refine lv_goto (tgt := 10) hx hb dX57_cut_35 (by decide) ?_
        exact ih x3_6 f_disk_4 f_first_5 hw _ _ ls hH (lv_sub hl [1, 2, 3, 0] rfl)
set_option maxHeartbeats 4000000 in
theorem atX57_cut_38 {p : Program} {l : Launch} {e : Env} {s : State} {m : MethodId} {args : Array Value} {below : List Frame} {meth : Method} {c : Code} {dC : Nat → ClassId} {dI : Nat → Nat → Nat} {cl : List vw_C} {ci : Nat} (hc : cl[ci]? = some (RX57, TX57, 22)) {ad : Nat → Nat} {d : Nat → ClassId} {A : Nat → Prop} {post : Int → (Int → Int) → (Int → Int) → (Int → Int) → (Int → Int) → Int → Int → Int → (Int → Int) → (Int → Int) → Int → Int → Int → Prop} {f_count : Int32} {f_full : Int32} {f_open : Nat → Int32} {f_targets : Nat → Int32} {f_bytes : Nat → Int32} {f_keptNumbers : Nat → Int32} {f_keptSectors : Nat → Int64} {f_thrown : Int32} {f_head : Nat → Int32} (X : kX p s m args meth c cX57_cut 4 RX57 none (dC, dI) cl (tX57 d))     :
    ∀ (x2 : Int32) (f_runs : Int32) (f_disk : Nat → Int32) (f_later : Nat → Int32) (f_laid : Nat → Int32) (f_places : Nat → Int32) (f_changed : Int32) (f_first : Int32) (f_behind : Int32) (f_numbers : Nat → Int32) (f_sectors : Nat → Int64) (f_oldest : Int32) (f_newest : Int32) (f_kept : Int32), wX57_cut_38 post x2.toInt (zF f_disk) (zF f_later) (zF f_laid) (zF f_places) (zF f_targets) (zF f_bytes) f_first.toInt f_behind.toInt (zF f_numbers) (zG f_sectors) → ∀ (H : Heap) (locs : List Loc) (ls : Array Slot), kH (dC, dI) cl A s.heap H locs (wX57 ci ad d f_count f_runs f_full f_disk f_later f_open f_laid f_places f_changed f_targets f_bytes f_first f_behind f_numbers f_sectors f_oldest f_newest f_keptNumbers f_keptSectors f_kept f_thrown f_head) → lv_has ls 4 [(0, .ref (ad 0)), (2, .int x2)] → W p l e ({ frames := 1, cells := 0, slots := 0, locals := 24 } : Room) s m args below meth c H locs 0 0 (MQ below (va_Qv (fun (u : Int32 × (Nat → Int32) × (Nat → Int32) × (Nat → Int32) × (Nat → Int32) × Int32 × Int32 × Int32 × (Nat → Int32) × (Nat → Int64) × Int32 × Int32 × Int32) => post (u.1).toInt (zF (u.2.1)) (zF (u.2.2.1)) (zF (u.2.2.2.1)) (zF (u.2.2.2.2.1)) (u.2.2.2.2.2.1).toInt (u.2.2.2.2.2.2.1).toInt (u.2.2.2.2.2.2.2.1).toInt (zF (u.2.2.2.2.2.2.2.2.1)) (zG (u.2.2.2.2.2.2.2.2.2.1)) (u.2.2.2.2.2.2.2.2.2.2.1).toInt (u.2.2.2.2.2.2.2.2.2.2.2.1).toInt (u.2.2.2.2.2.2.2.2.2.2.2.2).toInt) (kB (dC, dI) cl (tX57 d) A (fun u : Int32 × (Nat → Int32) × (Nat → Int32) × (Nat → Int32) × (Nat → Int32) × Int32 × Int32 × Int32 × (Nat → Int32) × (Nat → Int64) × Int32 × Int32 × Int32 => (wX57 ci ad d f_count (u.1) f_full (u.2.1) (u.2.2.1) f_open (u.2.2.2.1) (u.2.2.2.2.1) (u.2.2.2.2.2.1) f_targets f_bytes (u.2.2.2.2.2.2.1) (u.2.2.2.2.2.2.2.1) (u.2.2.2.2.2.2.2.2.1) (u.2.2.2.2.2.2.2.2.2.1) (u.2.2.2.2.2.2.2.2.2.2.1) (u.2.2.2.2.2.2.2.2.2.2.2.1) f_keptNumbers f_keptSectors (u.2.2.2.2.2.2.2.2.2.2.2.2) f_thrown f_head))) A) args s 0 0 A) (F0 m 38 ls []) := by
  have hx := X.1.1
  have hb := X.1.2.1
  intro x2 f_runs f_disk f_later f_laid f_places f_changed f_first f_behind f_numbers f_sectors f_oldest f_newest f_kept hw H locs ls hH hl
  unfold wX57_cut_38 at hw
  refine lv_aload_n hx hb dX57_cut_38 rfl (lv_at hl 0 rfl) ?_
  refine k_get X hH in_X57 0 rfl hc 11 (by decide) q6801 rfl dX57_cut_39 ?_
  refine lv_aload_n hx hb dX57_cut_42 rfl (lv_at hl 0 rfl) ?_
  refine k_get X hH in_X57 0 rfl hc 12 (by decide) q6802 rfl dX57_cut_43 ?_
  refine lv_icmp_ge (tgt := 73) hx hb dX57_cut_46 (by decide) (fun c_10 => ?_) (fun c_10 => ?_)
  · have hw := hw.1 (z_le (rfl : f_behind.toInt = _) (rfl : f_first.toInt = _) c_10)
    refine lv_aload_n hx hb dX57_cut_73 rfl (lv_at hl 0 rfl) ?_
    refine lv_iconst (v := 0) hx hb dX57_cut_74 (by decide) ?_
    refine k_put X hH in_X57 tyX57_ok nmX57 0 rfl hc 1 (by decide) q6791 rfl (ty := .boolean) rfl rfl rfl (Nat.le_of_ble_eq_true rfl) dX57_cut_75 (ws1 := (wX57 ci ad d f_count 0 f_full f_disk f_later f_open f_laid f_places f_changed f_targets f_bytes f_first f_behind f_numbers f_sectors f_oldest f_newest f_keptNumbers f_keptSectors f_kept f_thrown f_head)) rfl (fun H locs hH => ?_)
    refine lv_aload_n hx hb dX57_cut_78 rfl (lv_at hl 0 rfl) ?_
    refine lv_iconst (v := 0) hx hb dX57_cut_79 (by decide) ?_
    refine lv_lconst (v := 0) hx hb dX57_cut_80 (by decide) ?_
    refine k_v0 hH (k_runV (As := [.int 0, .long 0]) (rest := []) X hH.1 hH.2.1 X.2.2.2 (walkX57_begin hc (x1 := 0) (x2 := 0) (f_count := f_count) (f_runs := 0) (f_full := f_full) (f_disk := f_disk) (f_later := f_later) (f_open := f_open) (f_laid := f_laid) (f_places := f_places) (f_changed := f_changed) (f_targets := f_targets) (f_bytes := f_bytes) (f_first := f_first) (f_behind := f_behind) (f_numbers := f_numbers) (f_sectors := f_sectors) (f_oldest := f_oldest) (f_newest := f_newest) (f_keptNumbers := f_keptNumbers) (f_keptSectors := f_keptSectors) (f_kept := f_kept) (f_thrown := f_thrown) (f_head := f_head) hw) (cwV 2 X.1.2.2.2.2 gX57_57 rfl rfl rfl hX57_begin ⟨Nat.le_of_ble_eq_true rfl, Nat.le_of_ble_eq_true rfl⟩) hc (q0 := 0) rfl rfl hl.1 rfl (Nat.le_of_ble_eq_true rfl) dX57_cut_81 ⟨Nat.le_refl 0, Nat.le_refl 0⟩) (fun u H locs hw hH => ?_)
    obtain ⟨f_later_11, f_laid_12, f_places_13, f_changed_14, f_first_15, f_behind_16, f_numbers_17, f_sectors_18, f_oldest_19, f_newest_20, f_kept_21⟩ := u
    have hH : kH (dC, dI) cl A s.heap H locs (wX57 ci ad d f_count 0 f_full f_disk f_later_11 f_open f_laid_12 f_places_13 f_changed_14 f_targets f_bytes f_first_15 f_behind_16 f_numbers_17 f_sectors_18 f_oldest_19 f_newest_20 f_keptNumbers f_keptSectors f_kept_21 f_thrown f_head) := hH
    exact k_vret X hH (0, f_disk, f_later_11, f_laid_12, f_places_13, f_changed_14, f_first_15, f_behind_16, f_numbers_17, f_sectors_18, f_oldest_19, f_newest_20, f_kept_21) hw rfl dX57_cut_84
  · have hw := hw.2 (z_nle (rfl : f_behind.toInt = _) (rfl : f_first.toInt = _) c_10)
    refine lv_aload_n hx hb dX57_cut_49 rfl (lv_at hl 0 rfl) ?_
    refine lv_iload_n hx hb dX57_cut_50 rfl (lv_at hl 1 rfl) ?_
    refine lv_if_ge (tgt := 58) hx hb dX57_cut_51 (by decide) (fun c_22 => ?_) (fun c_22 => ?_)
    · have hw := hw.1 (z_le (rfl : (0 : Int32).toInt = 0) (rfl : x2.toInt = _) c_22)
      refine lv_iload_n hx hb dX57_cut_58 rfl (lv_at hl 1 rfl) ?_
      refine lv_bipush (v := 32) hx hb dX57_cut_59 (by decide) ?_
      refine lv_icmp_le (tgt := 69) hx hb dX57_cut_61 (by decide) (fun c_23 => ?_) (fun c_23 => ?_)
      · have hw := hw.1 (z_le (rfl : x2.toInt = _) (rfl : (32 : Int32).toInt = 32) c_23)
        refine lv_iload_n hx hb dX57_cut_69 rfl (lv_at hl 1 rfl) ?_
        refine k_v0 hH (k_runV (As := [.int x2]) (rest := []) X hH.1 hH.2.1 X.2.2.2 (walkX57_write hc (x1 := x2) (f_count := f_count) (f_runs := f_runs) (f_full := f_full) (f_disk := f_disk) (f_later := f_later) (f_open := f_open) (f_laid := f_laid) (f_places := f_places) (f_changed := f_changed) (f_targets := f_targets) (f_bytes := f_bytes) (f_first := f_first) (f_behind := f_behind) (f_numbers := f_numbers) (f_sectors := f_sectors) (f_oldest := f_oldest) (f_newest := f_newest) (f_keptNumbers := f_keptNumbers) (f_keptSectors := f_keptSectors) (f_kept := f_kept) (f_thrown := f_thrown) (f_head := f_head) hw) (cwV 1 X.1.2.2.2.2 gX57_158 rfl rfl rfl hX57_write ⟨Nat.le_of_ble_eq_true rfl, Nat.le_of_ble_eq_true rfl⟩) hc (q0 := 0) rfl rfl hl.1 rfl (Nat.le_of_ble_eq_true rfl) dX57_cut_70 ⟨Nat.le_refl 0, Nat.le_refl 0⟩) (fun u H locs hw hH => ?_)
        obtain ⟨f_disk_24, f_first_25⟩ := u
        have hH : kH (dC, dI) cl A s.heap H locs (wX57 ci ad d f_count f_runs f_full f_disk_24 f_later f_open f_laid f_places f_changed f_targets f_bytes f_first_25 f_behind f_numbers f_sectors f_oldest f_newest f_keptNumbers f_keptSectors f_kept f_thrown f_head) := hH
        refine lv_aload_n hx hb dX57_cut_73 rfl (lv_at hl 0 rfl) ?_
        refine lv_iconst (v := 0) hx hb dX57_cut_74 (by decide) ?_
        refine k_put X hH in_X57 tyX57_ok nmX57 0 rfl hc 1 (by decide) q6791 rfl (ty := .boolean) rfl rfl rfl (Nat.le_of_ble_eq_true rfl) dX57_cut_75 (ws1 := (wX57 ci ad d f_count 0 f_full f_disk_24 f_later f_open f_laid f_places f_changed f_targets f_bytes f_first_25 f_behind f_numbers f_sectors f_oldest f_newest f_keptNumbers f_keptSectors f_kept f_thrown f_head)) rfl (fun H locs hH => ?_)
        refine lv_aload_n hx hb dX57_cut_78 rfl (lv_at hl 0 rfl) ?_
        refine lv_iconst (v := 0) hx hb dX57_cut_79 (by decide) ?_
        refine lv_lconst (v := 0) hx hb dX57_cut_80 (by decide) ?_
        refine k_v0 hH (k_runV (As := [.int 0, .long 0]) (rest := []) X hH.1 hH.2.1 X.2.2.2 (walkX57_begin hc (x1 := 0) (x2 := 0) (f_count := f_count) (f_runs := 0) (f_full := f_full) (f_disk := f_disk_24) (f_later := f_later) (f_open := f_open) (f_laid := f_laid) (f_places := f_places) (f_changed := f_changed) (f_targets := f_targets) (f_bytes := f_bytes) (f_first := f_first_25) (f_behind := f_behind) (f_numbers := f_numbers) (f_sectors := f_sectors) (f_oldest := f_oldest) (f_newest := f_newest) (f_keptNumbers := f_keptNumbers) (f_keptSectors := f_keptSectors) (f_kept := f_kept) (f_thrown := f_thrown) (f_head := f_head) hw) (cwV 2 X.1.2.2.2.2 gX57_57 rfl rfl rfl hX57_begin ⟨Nat.le_of_ble_eq_true rfl, Nat.le_of_ble_eq_true rfl⟩) hc (q0 := 0) rfl rfl hl.1 rfl (Nat.le_of_ble_eq_true rfl) dX57_cut_81 ⟨Nat.le_refl 0, Nat.le_refl 0⟩) (fun u H locs hw hH => ?_)
        obtain ⟨f_later_26, f_laid_27, f_places_28, f_changed_29, f_first_30, f_behind_31, f_numbers_32, f_sectors_33, f_oldest_34, f_newest_35, f_kept_36⟩ := u
        have hH : kH (dC, dI) cl A s.heap H locs (wX57 ci ad d f_count 0 f_full f_disk_24 f_later_26 f_open f_laid_27 f_places_28 f_changed_29 f_targets f_bytes f_first_30 f_behind_31 f_numbers_32 f_sectors_33 f_oldest_34 f_newest_35 f_keptNumbers f_keptSectors f_kept_36 f_thrown f_head) := hH
        exact k_vret X hH (0, f_disk_24, f_later_26, f_laid_27, f_places_28, f_changed_29, f_first_30, f_behind_31, f_numbers_32, f_sectors_33, f_oldest_34, f_newest_35, f_kept_36) hw rfl dX57_cut_84
      · have hw := hw.2 (z_nle (rfl : x2.toInt = _) (rfl : (32 : Int32).toInt = 32) c_23)
        refine lv_bipush (v := 32) hx hb dX57_cut_64 (by decide) ?_
        refine lv_goto (tgt := 70) hx hb dX57_cut_66 (by decide) ?_
        refine k_v0 hH (k_runV (As := [.int 32]) (rest := []) X hH.1 hH.2.1 X.2.2.2 (walkX57_write hc (x1 := 32) (f_count := f_count) (f_runs := f_runs) (f_full := f_full) (f_disk := f_disk) (f_later := f_later) (f_open := f_open) (f_laid := f_laid) (f_places := f_places) (f_changed := f_changed) (f_targets := f_targets) (f_bytes := f_bytes) (f_first := f_first) (f_behind := f_behind) (f_numbers := f_numbers) (f_sectors := f_sectors) (f_oldest := f_oldest) (f_newest := f_newest) (f_keptNumbers := f_keptNumbers) (f_keptSectors := f_keptSectors) (f_kept := f_kept) (f_thrown := f_thrown) (f_head := f_head) hw) (cwV 1 X.1.2.2.2.2 gX57_158 rfl rfl rfl hX57_write ⟨Nat.le_of_ble_eq_true rfl, Nat.le_of_ble_eq_true rfl⟩) hc (q0 := 0) rfl rfl hl.1 rfl (Nat.le_of_ble_eq_true rfl) dX57_cut_70 ⟨Nat.le_refl 0, Nat.le_refl 0⟩) (fun u H locs hw hH => ?_)
        obtain ⟨f_disk_37, f_first_38⟩ := u
        have hH : kH (dC, dI) cl A s.heap H locs (wX57 ci ad d f_count f_runs f_full f_disk_37 f_later f_open f_laid f_places f_changed f_targets f_bytes f_first_38 f_behind f_numbers f_sectors f_oldest f_newest f_keptNumbers f_keptSectors f_kept f_thrown f_head) := hH
        refine lv_aload_n hx hb dX57_cut_73 rfl (lv_at hl 0 rfl) ?_
        refine lv_iconst (v := 0) hx hb dX57_cut_74 (by decide) ?_
        refine k_put X hH in_X57 tyX57_ok nmX57 0 rfl hc 1 (by decide) q6791 rfl (ty := .boolean) rfl rfl rfl (Nat.le_of_ble_eq_true rfl) dX57_cut_75 (ws1 := (wX57 ci ad d f_count 0 f_full f_disk_37 f_later f_open f_laid f_places f_changed f_targets f_bytes f_first_38 f_behind f_numbers f_sectors f_oldest f_newest f_keptNumbers f_keptSectors f_kept f_thrown f_head)) rfl (fun H locs hH => ?_)
        refine lv_aload_n hx hb dX57_cut_78 rfl (lv_at hl 0 rfl) ?_
        refine lv_iconst (v := 0) hx hb dX57_cut_79 (by decide) ?_
        refine lv_lconst (v := 0) hx hb dX57_cut_80 (by decide) ?_
        refine k_v0 hH (k_runV (As := [.int 0, .long 0]) (rest := []) X hH.1 hH.2.1 X.2.2.2 (walkX57_begin hc (x1 := 0) (x2 := 0) (f_count := f_count) (f_runs := 0) (f_full := f_full) (f_disk := f_disk_37) (f_later := f_later) (f_open := f_open) (f_laid := f_laid) (f_places := f_places) (f_changed := f_changed) (f_targets := f_targets) (f_bytes := f_bytes) (f_first := f_first_38) (f_behind := f_behind) (f_numbers := f_numbers) (f_sectors := f_sectors) (f_oldest := f_oldest) (f_newest := f_newest) (f_keptNumbers := f_keptNumbers) (f_keptSectors := f_keptSectors) (f_kept := f_kept) (f_thrown := f_thrown) (f_head := f_head) hw) (cwV 2 X.1.2.2.2.2 gX57_57 rfl rfl rfl hX57_begin ⟨Nat.le_of_ble_eq_true rfl, Nat.le_of_ble_eq_true rfl⟩) hc (q0 := 0) rfl rfl hl.1 rfl (Nat.le_of_ble_eq_true rfl) dX57_cut_81 ⟨Nat.le_refl 0, Nat.le_refl 0⟩) (fun u H locs hw hH => ?_)
        obtain ⟨f_later_39, f_laid_40, f_places_41, f_changed_42, f_first_43, f_behind_44, f_numbers_45, f_sectors_46, f_oldest_47, f_newest_48, f_kept_49⟩ := u
        have hH : kH (dC, dI) cl A s.heap H locs (wX57 ci ad d f_count 0 f_full f_disk_37 f_later_39 f_open f_laid_40 f_places_41 f_changed_42 f_targets f_bytes f_first_43 f_behind_44 f_numbers_45 f_sectors_46 f_oldest_47 f_newest_48 f_keptNumbers f_keptSectors f_kept_49 f_thrown f_head) := hH
        exact k_vret X hH (0, f_disk_37, f_later_39, f_laid_40, f_places_41, f_changed_42, f_first_43, f_behind_44, f_numbers_45, f_sectors_46, f_oldest_47, f_newest_48, f_kept_49) hw rfl dX57_cut_84
    · have hw := hw.2 (z_nle (rfl : (0 : Int32).toInt = 0) (rfl : x2.toInt = _) c_22)
      refine lv_iconst (v := 0) hx hb dX57_cut_54 (by decide) ?_
      refine lv_goto (tgt := 70) hx hb dX57_cut_55 (by decide) ?_
      refine k_v0 hH (k_runV (As := [.int 0]) (rest := []) X hH.1 hH.2.1 X.2.2.2 (walkX57_write hc (x1 := 0) (f_count := f_count) (f_runs := f_runs) (f_full := f_full) (f_disk := f_disk) (f_later := f_later) (f_open := f_open) (f_laid := f_laid) (f_places := f_places) (f_changed := f_changed) (f_targets := f_targets) (f_bytes := f_bytes) (f_first := f_first) (f_behind := f_behind) (f_numbers := f_numbers) (f_sectors := f_sectors) (f_oldest := f_oldest) (f_newest := f_newest) (f_keptNumbers := f_keptNumbers) (f_keptSectors := f_keptSectors) (f_kept := f_kept) (f_thrown := f_thrown) (f_head := f_head) hw) (cwV 1 X.1.2.2.2.2 gX57_158 rfl rfl rfl hX57_write ⟨Nat.le_of_ble_eq_true rfl, Nat.le_of_ble_eq_true rfl⟩) hc (q0 := 0) rfl rfl hl.1 rfl (Nat.le_of_ble_eq_true rfl) dX57_cut_70 ⟨Nat.le_refl 0, Nat.le_refl 0⟩) (fun u H locs hw hH => ?_)
      obtain ⟨f_disk_50, f_first_51⟩ := u
      have hH : kH (dC, dI) cl A s.heap H locs (wX57 ci ad d f_count f_runs f_full f_disk_50 f_later f_open f_laid f_places f_changed f_targets f_bytes f_first_51 f_behind f_numbers f_sectors f_oldest f_newest f_keptNumbers f_keptSectors f_kept f_thrown f_head) := hH
      refine lv_aload_n hx hb dX57_cut_73 rfl (lv_at hl 0 rfl) ?_
      refine lv_iconst (v := 0) hx hb dX57_cut_74 (by decide) ?_
      refine k_put X hH in_X57 tyX57_ok nmX57 0 rfl hc 1 (by decide) q6791 rfl (ty := .boolean) rfl rfl rfl (Nat.le_of_ble_eq_true rfl) dX57_cut_75 (ws1 := (wX57 ci ad d f_count 0 f_full f_disk_50 f_later f_open f_laid f_places f_changed f_targets f_bytes f_first_51 f_behind f_numbers f_sectors f_oldest f_newest f_keptNumbers f_keptSectors f_kept f_thrown f_head)) rfl (fun H locs hH => ?_)
      refine lv_aload_n hx hb dX57_cut_78 rfl (lv_at hl 0 rfl) ?_
      refine lv_iconst (v := 0) hx hb dX57_cut_79 (by decide) ?_
      refine lv_lconst (v := 0) hx hb dX57_cut_80 (by decide) ?_
      refine k_v0 hH (k_runV (As := [.int 0, .long 0]) (rest := []) X hH.1 hH.2.1 X.2.2.2 (walkX57_begin hc (x1 := 0) (x2 := 0) (f_count := f_count) (f_runs := 0) (f_full := f_full) (f_disk := f_disk_50) (f_later := f_later) (f_open := f_open) (f_laid := f_laid) (f_places := f_places) (f_changed := f_changed) (f_targets := f_targets) (f_bytes := f_bytes) (f_first := f_first_51) (f_behind := f_behind) (f_numbers := f_numbers) (f_sectors := f_sectors) (f_oldest := f_oldest) (f_newest := f_newest) (f_keptNumbers := f_keptNumbers) (f_keptSectors := f_keptSectors) (f_kept := f_kept) (f_thrown := f_thrown) (f_head := f_head) hw) (cwV 2 X.1.2.2.2.2 gX57_57 rfl rfl rfl hX57_begin ⟨Nat.le_of_ble_eq_true rfl, Nat.le_of_ble_eq_true rfl⟩) hc (q0 := 0) rfl rfl hl.1 rfl (Nat.le_of_ble_eq_true rfl) dX57_cut_81 ⟨Nat.le_refl 0, Nat.le_refl 0⟩) (fun u H locs hw hH => ?_)
      obtain ⟨f_later_52, f_laid_53, f_places_54, f_changed_55, f_first_56, f_behind_57, f_numbers_58, f_sectors_59, f_oldest_60, f_newest_61, f_kept_62⟩ := u
      have hH : kH (dC, dI) cl A s.heap H locs (wX57 ci ad d f_count 0 f_full f_disk_50 f_later_52 f_open f_laid_53 f_places_54 f_changed_55 f_targets f_bytes f_first_56 f_behind_57 f_numbers_58 f_sectors_59 f_oldest_60 f_newest_61 f_keptNumbers f_keptSectors f_kept_62 f_thrown f_head) := hH
      exact k_vret X hH (0, f_disk_50, f_later_52, f_laid_53, f_places_54, f_changed_55, f_first_56, f_behind_57, f_numbers_58, f_sectors_59, f_oldest_60, f_newest_61, f_kept_62) hw rfl dX57_cut_84
set_option maxHeartbeats 4000000 in
theorem walkX57_cut {l : Launch} {dC : Nat → ClassId} {dI : Nat → Nat → Nat} {cl : List vw_C} {ci : Nat} (hc : cl[ci]? = some (RX57, TX57, 22)) {ad : Nat → Nat} {d : Nat → ClassId} {sz : Nat} {f_count : Int32} {f_runs : Int32} {f_full : Int32} {f_disk : Nat → Int32} {f_later : Nat → Int32} {f_open : Nat → Int32} {f_laid : Nat → Int32} {f_places : Nat → Int32} {f_changed : Int32} {f_targets : Nat → Int32} {f_bytes : Nat → Int32} {f_first : Int32} {f_behind : Int32} {f_numbers : Nat → Int32} {f_sectors : Nat → Int64} {f_oldest : Int32} {f_newest : Int32} {f_keptNumbers : Nat → Int32} {f_keptSectors : Nat → Int64} {f_kept : Int32} {f_thrown : Int32} {f_head : Nat → Int32} {x1 : Int32} {x2 : Int32} {post : Int → (Int → Int) → (Int → Int) → (Int → Int) → (Int → Int) → Int → Int → Int → (Int → Int) → (Int → Int) → Int → Int → Int → Prop} (hw : wpX57_cut post f_runs.toInt (zF f_disk) (zF f_later) (zF f_laid) (zF f_places) f_changed.toInt (zF f_targets) (zF f_bytes) f_first.toInt f_behind.toInt (zF f_numbers) (zG f_sectors) f_oldest.toInt f_newest.toInt f_kept.toInt x1.toInt x2.toInt) :
    Met l yX57_cut (ws_ yX57_cut cX57_cut 4 none) ({ frames := 1, cells := 0, slots := 0, locals := 24 } : Room) (kPc (dC, dI) cl (tX57 d) [.ref (ad 0), .int x1, .int x2] sz (wX57 ci ad d f_count f_runs f_full f_disk f_later f_open f_laid f_places f_changed f_targets f_bytes f_first f_behind f_numbers f_sectors f_oldest f_newest f_keptNumbers f_keptSectors f_kept f_thrown f_head)) (va_Qv (fun (u : Int32 × (Nat → Int32) × (Nat → Int32) × (Nat → Int32) × (Nat → Int32) × Int32 × Int32 × Int32 × (Nat → Int32) × (Nat → Int64) × Int32 × Int32 × Int32) => post (u.1).toInt (zF (u.2.1)) (zF (u.2.2.1)) (zF (u.2.2.2.1)) (zF (u.2.2.2.2.1)) (u.2.2.2.2.2.1).toInt (u.2.2.2.2.2.2.1).toInt (u.2.2.2.2.2.2.2.1).toInt (zF (u.2.2.2.2.2.2.2.2.1)) (zG (u.2.2.2.2.2.2.2.2.2.1)) (u.2.2.2.2.2.2.2.2.2.2.1).toInt (u.2.2.2.2.2.2.2.2.2.2.2.1).toInt (u.2.2.2.2.2.2.2.2.2.2.2.2).toInt) (kB (dC, dI) cl (tX57 d) (va_A (wX57 ci ad d f_count f_runs f_full f_disk f_later f_open f_laid f_places f_changed f_targets f_bytes f_first f_behind f_numbers f_sectors f_oldest f_newest f_keptNumbers f_keptSectors f_kept f_thrown f_head) sz) (fun u : Int32 × (Nat → Int32) × (Nat → Int32) × (Nat → Int32) × (Nat → Int32) × Int32 × Int32 × Int32 × (Nat → Int32) × (Nat → Int64) × Int32 × Int32 × Int32 => (wX57 ci ad d f_count (u.1) f_full (u.2.1) (u.2.2.1) f_open (u.2.2.2.1) (u.2.2.2.2.1) (u.2.2.2.2.2.1) f_targets f_bytes (u.2.2.2.2.2.2.1) (u.2.2.2.2.2.2.2.1) (u.2.2.2.2.2.2.2.2.1) (u.2.2.2.2.2.2.2.2.2.1) (u.2.2.2.2.2.2.2.2.2.2.1) (u.2.2.2.2.2.2.2.2.2.2.2.1) f_keptNumbers f_keptSectors (u.2.2.2.2.2.2.2.2.2.2.2.2) f_thrown f_head))) (va_A (wX57 ci ad d f_count f_runs f_full f_disk f_later f_open f_laid f_places f_changed f_targets f_bytes f_first f_behind f_numbers f_sectors f_oldest f_newest f_keptNumbers f_keptSectors f_kept f_thrown f_head) sz)) 0 0 (va_A (wX57 ci ad d f_count f_runs f_full f_disk f_later f_open f_laid f_places f_changed f_targets f_bytes f_first f_behind f_numbers f_sectors f_oldest f_newest f_keptNumbers f_keptSectors f_kept f_thrown f_head) sz) := by
  refine k_enter (by decide) (Nat.le_of_ble_eq_true rfl) ?_
  intro p e s m below meth c ls X hsz hH hl
  subst hsz
  generalize va_A (wX57 ci ad d f_count f_runs f_full f_disk f_later f_open f_laid f_places f_changed f_targets f_bytes f_first f_behind f_numbers f_sectors f_oldest f_newest f_keptNumbers f_keptSectors f_kept f_thrown f_head) s.heap.size = A at hH ⊢
  have hx := X.1.1
  have hb := X.1.2.1
  have hl : lv_has ls 4 [(0, .ref (ad 0)), (1, .int x1), (2, .int x2)] := hl
  unfold wpX57_cut at hw
  refine lv_aload_n hx hb dX57_cut_0 rfl (lv_at hl 0 rfl) ?_
  refine k_get X hH in_X57 0 rfl hc 1 (by decide) q6791 rfl dX57_cut_1 ?_
  refine lv_if_ne (tgt := 8) hx hb dX57_cut_4 (by decide) (fun c_1 => ?_) (fun c_1 => ?_)
  · have hw := hw.2 (z_ne (rfl : f_runs.toInt = _) (rfl : (0 : Int32).toInt = 0) c_1)
    refine lv_iconst (v := 0) hx hb dX57_cut_8 (by decide) ?_
    refine lv_istore_n (lv' := [(3, .int 0), (0, .ref (ad 0)), (1, .int x1), (2, .int x2)]) hx hb dX57_cut_9 rfl hl (by decide) rfl (fun ls hl => ?_)
    obtain ⟨fu, hw⟩ := hw
    refine atX57_cut_10 hc X ?_ fu 0 f_disk f_first hw _ _ ls hH (lv_sub hl [1, 2, 3, 0] rfl)
    · intro f_disk_8 f_first_9 hw H locs ls hH hl
      exact atX57_cut_38 hc X x2 f_runs f_disk_8 f_later f_laid f_places f_changed f_first_9 f_behind f_numbers f_sectors f_oldest f_newest f_kept hw _ _ ls hH (lv_sub hl [0, 1] rfl)
  · have hw := hw.1 (z_eq (rfl : f_runs.toInt = _) (rfl : (0 : Int32).toInt = 0) c_1)
    exact k_vret X hH (f_runs, f_disk, f_later, f_laid, f_places, f_changed, f_first, f_behind, f_numbers, f_sectors, f_oldest, f_newest, f_kept) hw rfl dX57_cut_7
set_option maxHeartbeats 4000000 in
theorem walkX57_number_disk {l : Launch} {dC : Nat → ClassId} {dI : Nat → Nat → Nat} {cl : List vw_C} {ci : Nat} (hc : cl[ci]? = some (RX57, TX57, 22)) {ad : Nat → Nat} {d : Nat → ClassId} {sz : Nat} {f_count : Int32} {f_runs : Int32} {f_full : Int32} {f_disk : Nat → Int32} {f_later : Nat → Int32} {f_open : Nat → Int32} {f_laid : Nat → Int32} {f_places : Nat → Int32} {f_changed : Int32} {f_targets : Nat → Int32} {f_bytes : Nat → Int32} {f_first : Int32} {f_behind : Int32} {f_numbers : Nat → Int32} {f_sectors : Nat → Int64} {f_oldest : Int32} {f_newest : Int32} {f_keptNumbers : Nat → Int32} {f_keptSectors : Nat → Int64} {f_kept : Int32} {f_thrown : Int32} {f_head : Nat → Int32} {x1 : Int32} {post : Int → Prop} (hw : wpX57_number_disk post (zF f_disk) x1.toInt) :
    Met l yX57_number (ws_ yX57_number cX57_number 2 (some .int)) ({ frames := 0, cells := 0, slots := 0, locals := 0 } : Room) (kPc (dC, dI) cl (tX57 d) [.ref (ad 1), .int x1] sz (wX57 ci ad d f_count f_runs f_full f_disk f_later f_open f_laid f_places f_changed f_targets f_bytes f_first f_behind f_numbers f_sectors f_oldest f_newest f_keptNumbers f_keptSectors f_kept f_thrown f_head)) (va_Qi (fun (r : Int32) (_ : Unit) => post r.toInt) (kB (dC, dI) cl (tX57 d) (va_A (wX57 ci ad d f_count f_runs f_full f_disk f_later f_open f_laid f_places f_changed f_targets f_bytes f_first f_behind f_numbers f_sectors f_oldest f_newest f_keptNumbers f_keptSectors f_kept f_thrown f_head) sz) (fun _ : Unit => (wX57 ci ad d f_count f_runs f_full f_disk f_later f_open f_laid f_places f_changed f_targets f_bytes f_first f_behind f_numbers f_sectors f_oldest f_newest f_keptNumbers f_keptSectors f_kept f_thrown f_head))) (va_A (wX57 ci ad d f_count f_runs f_full f_disk f_later f_open f_laid f_places f_changed f_targets f_bytes f_first f_behind f_numbers f_sectors f_oldest f_newest f_keptNumbers f_keptSectors f_kept f_thrown f_head) sz)) 0 0 (va_A (wX57 ci ad d f_count f_runs f_full f_disk f_later f_open f_laid f_places f_changed f_targets f_bytes f_first f_behind f_numbers f_sectors f_oldest f_newest f_keptNumbers f_keptSectors f_kept f_thrown f_head) sz) := by
  refine k_enter (by decide) (Nat.le_of_ble_eq_true rfl) ?_
  intro p e s m below meth c ls X hsz hH hl
  subst hsz
  generalize va_A (wX57 ci ad d f_count f_runs f_full f_disk f_later f_open f_laid f_places f_changed f_targets f_bytes f_first f_behind f_numbers f_sectors f_oldest f_newest f_keptNumbers f_keptSectors f_kept f_thrown f_head) s.heap.size = A at hH ⊢
  have hx := X.1.1
  have hb := X.1.2.1
  have hl : lv_has ls 2 [(0, .ref (ad 1)), (1, .int x1)] := hl
  unfold wpX57_number_disk at hw
  refine lv_aload_n hx hb dX57_number_0 rfl (lv_at hl 0 rfl) ?_
  refine lv_iload_n hx hb dX57_number_1 rfl (lv_at hl 1 rfl) ?_
  have hq_1 := hw.1
  have hw := hw.2
  refine k_iald X hH 1 0 rfl rfl (z_in (rfl : x1.toInt = _) hq_1) dX57_number_2 ?_
  have e_2 := z_ld (f := f_disk) (rfl : x1.toInt = _) hq_1.1
  refine lv_bipush (v := 24) hx hb dX57_number_3 (by decide) ?_
  refine lv_ishl hx hb dX57_number_5 ?_
  have e_3 := z_shl (z_m e_2) (k := 24) (m := 24) (c := 16777216) (by decide)
  refine lv_aload_n hx hb dX57_number_6 rfl (lv_at hl 0 rfl) ?_
  refine lv_iload_n hx hb dX57_number_7 rfl (lv_at hl 1 rfl) ?_
  refine lv_iconst (v := 1) hx hb dX57_number_8 (by decide) ?_
  refine lv_iadd hx hb dX57_number_9 ?_
  have e_4 := z_add (z_m (rfl : x1.toInt = _)) (z_m (rfl : (1 : Int32).toInt = 1))
  have hq_5 := hw.1
  have hw := hw.2
  have e_6 := z_xi e_4 hq_5 (by decide)
  refine k_iald X hH 1 0 rfl rfl (z_in e_6 hq_5) dX57_number_10 ?_
  have e_7 := z_ld (f := f_disk) e_6 hq_5.1
  refine lv_bipush (v := 16) hx hb dX57_number_11 (by decide) ?_
  refine lv_ishl hx hb dX57_number_13 ?_
  have e_8 := z_shl (z_m e_7) (k := 16) (m := 16) (c := 65536) (by decide)
  refine lv_ior hx hb dX57_number_14 ?_
  have e_9 := z_or e_3 e_8
  refine lv_aload_n hx hb dX57_number_15 rfl (lv_at hl 0 rfl) ?_
  refine lv_iload_n hx hb dX57_number_16 rfl (lv_at hl 1 rfl) ?_
  refine lv_iconst (v := 2) hx hb dX57_number_17 (by decide) ?_
  refine lv_iadd hx hb dX57_number_18 ?_
  have e_10 := z_add (z_m (rfl : x1.toInt = _)) (z_m (rfl : (2 : Int32).toInt = 2))
  have hq_11 := hw.1
  have hw := hw.2
  have e_12 := z_xi e_10 hq_11 (by decide)
  refine k_iald X hH 1 0 rfl rfl (z_in e_12 hq_11) dX57_number_19 ?_
  have e_13 := z_ld (f := f_disk) e_12 hq_11.1
  refine lv_bipush (v := 8) hx hb dX57_number_20 (by decide) ?_
  refine lv_ishl hx hb dX57_number_22 ?_
  have e_14 := z_shl (z_m e_13) (k := 8) (m := 8) (c := 256) (by decide)
  refine lv_ior hx hb dX57_number_23 ?_
  have e_15 := z_or (z_m e_9) e_14
  refine lv_aload_n hx hb dX57_number_24 rfl (lv_at hl 0 rfl) ?_
  refine lv_iload_n hx hb dX57_number_25 rfl (lv_at hl 1 rfl) ?_
  refine lv_iconst (v := 3) hx hb dX57_number_26 (by decide) ?_
  refine lv_iadd hx hb dX57_number_27 ?_
  have e_16 := z_add (z_m (rfl : x1.toInt = _)) (z_m (rfl : (3 : Int32).toInt = 3))
  have hq_17 := hw.1
  have hw := hw.2
  have e_18 := z_xi e_16 hq_17 (by decide)
  refine k_iald X hH 1 0 rfl rfl (z_in e_18 hq_17) dX57_number_28 ?_
  have e_19 := z_ld (f := f_disk) e_18 hq_17.1
  refine lv_ior hx hb dX57_number_29 ?_
  have e_20 := z_or (z_m e_15) (z_m e_19)
  exact k_iret (v := ((((f_disk x1.toNatClampNeg) <<< ((24 : Int32) &&& 31)) ||| ((f_disk (x1 + 1).toNatClampNeg) <<< ((16 : Int32) &&& 31))) ||| ((f_disk (x1 + 2).toNatClampNeg) <<< ((8 : Int32) &&& 31))) ||| (f_disk (x1 + 3).toNatClampNeg)) X hH () (by rw [show (((((f_disk x1.toNatClampNeg) <<< ((24 : Int32) &&& 31)) ||| ((f_disk (x1 + 1).toNatClampNeg) <<< ((16 : Int32) &&& 31))) ||| ((f_disk (x1 + 2).toNatClampNeg) <<< ((8 : Int32) &&& 31))) ||| (f_disk (x1 + 3).toNatClampNeg) : Int32).toInt = _ from e_20]; exact hw) rfl rfl dX57_number_30
set_option maxHeartbeats 4000000 in
theorem atX57_sum_disk_4 {p : Program} {l : Launch} {e : Env} {s : State} {m : MethodId} {args : Array Value} {below : List Frame} {meth : Method} {c : Code} {dC : Nat → ClassId} {dI : Nat → Nat → Nat} {cl : List vw_C} {ci : Nat} (hc : cl[ci]? = some (RX57, TX57, 22)) {ad : Nat → Nat} {d : Nat → ClassId} {A : Nat → Prop} {post : Int → Prop} {f_count : Int32} {f_runs : Int32} {f_full : Int32} {f_disk : Nat → Int32} {f_later : Nat → Int32} {f_open : Nat → Int32} {f_laid : Nat → Int32} {f_places : Nat → Int32} {f_changed : Int32} {f_targets : Nat → Int32} {f_bytes : Nat → Int32} {f_first : Int32} {f_behind : Int32} {f_numbers : Nat → Int32} {f_sectors : Nat → Int64} {f_oldest : Int32} {f_newest : Int32} {f_keptNumbers : Nat → Int32} {f_keptSectors : Nat → Int64} {f_kept : Int32} {f_thrown : Int32} {f_head : Nat → Int32} (X : kX p s m args meth c cX57_sum 5 RX57 (some .int) (dC, dI) cl (tX57 d)) {K43 : Int → Prop} {x1 : Int32}  (hk43 : ∀ (x2 : Int32), K43 x2.toInt → ∀ (H : Heap) (locs : List Loc) (ls : Array Slot), kH (dC, dI) cl A s.heap H locs (wX57 ci ad d f_count f_runs f_full f_disk f_later f_open f_laid f_places f_changed f_targets f_bytes f_first f_behind f_numbers f_sectors f_oldest f_newest f_keptNumbers f_keptSectors f_kept f_thrown f_head) → lv_has ls 5 [(2, .int x2)] → W p l e ({ frames := 0, cells := 0, slots := 0, locals := 0 } : Room) s m args below meth c H locs 0 0 (MQ below (va_Qi (fun (r : Int32) (_ : Unit) => post r.toInt) (kB (dC, dI) cl (tX57 d) A (fun _ : Unit => (wX57 ci ad d f_count f_runs f_full f_disk f_later f_open f_laid f_places f_changed f_targets f_bytes f_first f_behind f_numbers f_sectors f_oldest f_newest f_keptNumbers f_keptSectors f_kept f_thrown f_head))) A) args s 0 0 A) (F0 m 43 ls [])) :
    ∀ (nn : Nat) (x2 : Int32) (x3 : Int32), wX57_sum_disk_4 K43 x1.toInt (zF f_disk) nn x2.toInt x3.toInt → ∀ (H : Heap) (locs : List Loc) (ls : Array Slot), kH (dC, dI) cl A s.heap H locs (wX57 ci ad d f_count f_runs f_full f_disk f_later f_open f_laid f_places f_changed f_targets f_bytes f_first f_behind f_numbers f_sectors f_oldest f_newest f_keptNumbers f_keptSectors f_kept f_thrown f_head) → lv_has ls 5 [(0, .ref (ad 1)), (1, .int x1), (2, .int x2), (3, .int x3)] → W p l e ({ frames := 0, cells := 0, slots := 0, locals := 0 } : Room) s m args below meth c H locs 0 0 (MQ below (va_Qi (fun (r : Int32) (_ : Unit) => post r.toInt) (kB (dC, dI) cl (tX57 d) A (fun _ : Unit => (wX57 ci ad d f_count f_runs f_full f_disk f_later f_open f_laid f_places f_changed f_targets f_bytes f_first f_behind f_numbers f_sectors f_oldest f_newest f_keptNumbers f_keptSectors f_kept f_thrown f_head))) A) args s 0 0 A) (F0 m 4 ls []) := by
  have hx := X.1.1
  have hb := X.1.2.1
  intro nn
  induction nn with
  | zero =>
    intro x2 x3 hw
    exact False.elim hw
  | succ n ih =>
    intro x2 x3 hw H locs ls hH hl
    rw [wX57_sum_disk_4] at hw
    refine lv_iload_n hx hb dX57_sum_4 rfl (lv_at hl 3 rfl) ?_
    refine lv_bipush (v := 32) hx hb dX57_sum_5 (by decide) ?_
    refine lv_icmp_ge (tgt := 43) hx hb dX57_sum_7 (by decide) (fun c_1 => ?_) (fun c_1 => ?_)
    · have hw := hw.1 (z_le (rfl : (32 : Int32).toInt = 32) (rfl : x3.toInt = _) c_1)
      exact hk43 x2 hw _ _ ls hH (lv_sub hl [2] rfl)
    · have hw := hw.2 (z_nle (rfl : (32 : Int32).toInt = 32) (rfl : x3.toInt = _) c_1)
      refine lv_iload_n hx hb dX57_sum_10 rfl (lv_at hl 2 rfl) ?_
      refine lv_aload_n hx hb dX57_sum_11 rfl (lv_at hl 0 rfl) ?_
      refine lv_bipush (v := 32) hx hb dX57_sum_12 (by decide) ?_
      refine lv_iload_n hx hb dX57_sum_14 rfl (lv_at hl 1 rfl) ?_
      refine lv_imul hx hb dX57_sum_15 ?_
      have e_2 := z_mulw (rfl : (32 : Int32).toInt = 32) (rfl : x1.toInt = _)
      refine lv_iload_n hx hb dX57_sum_16 rfl (lv_at hl 3 rfl) ?_
      refine lv_iadd hx hb dX57_sum_17 ?_
      have e_3 := z_addw e_2 (rfl : x3.toInt = _)
      have hq_4 := hw.1
      have hw := hw.2
      refine k_iald X hH 1 0 rfl rfl (z_in e_3 hq_4) dX57_sum_18 ?_
      have e_5 := z_ld (f := f_disk) e_3 hq_4.1
      refine lv_ixor hx hb dX57_sum_19 ?_
      have e_6 := z_xor (z_m (rfl : x2.toInt = _)) (z_m e_5)
      refine lv_topi (fun x4_7 ex4_7 => ?_)
      have hw := hw x4_7.toInt (by rw [ex4_7]; exact e_6)
      refine lv_istore (lv' := [(4, .int x4_7), (0, .ref (ad 1)), (1, .int x1), (2, .int x2), (3, .int x3)]) hx hb dX57_sum_20 hl (by decide) rfl (fun ls hl => ?_)
      refine lv_iload hx hb dX57_sum_22 (lv_at hl 0 rfl) ?_
      refine lv_bipush (v := 11) hx hb dX57_sum_24 (by decide) ?_
      refine lv_ishl hx hb dX57_sum_26 ?_
      have e_8 := z_shlw (rfl : x4_7.toInt = _) (k := 11) (m := 11) (c := 2048) (by decide)
      refine lv_iload hx hb dX57_sum_27 (lv_at hl 0 rfl) ?_
      refine lv_bipush (v := 21) hx hb dX57_sum_29 (by decide) ?_
      refine lv_iushr (v := (x4_7.toUInt32 >>> ((21 : Int32).toUInt32 &&& Int32.toUInt32 31)).toInt32) hx hb dX57_sum_31 rfl ?_
      have e_9 := z_ushr (rfl : x4_7.toInt = _) (k := 21) (m := 21) (c := 2097152) (by decide) (by decide)
      refine lv_ior hx hb dX57_sum_32 ?_
      have e_10 := z_or (z_m e_8) (z_m e_9)
      refine lv_ldc (v := (-2048144777)) hx hb X.1.2.2.2.1 (X.1.2.2.2.2 _ q7857) dX57_sum_33 ?_
      refine lv_imul hx hb dX57_sum_35 ?_
      have e_11 := z_mulw e_10 (rfl : ((-2048144777) : Int32).toInt = (-2048144777))
      refine lv_topi (fun x2_12 ex2_12 => ?_)
      have hw := hw x2_12.toInt (by rw [ex2_12]; exact e_11)
      refine lv_istore_n (lv' := [(2, .int x2_12), (4, .int x4_7), (0, .ref (ad 1)), (1, .int x1), (3, .int x3)]) hx hb dX57_sum_36 rfl hl (by decide) rfl (fun ls hl => ?_)
      obtain ⟨x3_13, ex3_13⟩ : ∃ y : Int32, y = x3 + 1 := ⟨_, rfl⟩
      have hw := hw x3_13.toInt (by rw [ex3_13]; exact (z_addw (rfl : x3.toInt = _) (rfl : (1 : Int32).toInt = 1)))
      refine lv_iinc (v := x3_13) (lv' := [(3, .int x3_13), (2, .int x2_12), (4, .int x4_7), (0, .ref (ad 1)), (1, .int x1)]) hx hb dX57_sum_37 hl (k := 4) rfl (by rw [ex3_13]; rfl) (by decide) rfl (fun ls hl => ?_)
      refine lv_goto (tgt := 4) hx hb dX57_sum_40 (by decide) ?_
      exact ih x2_12 x3_13 hw _ _ ls hH (lv_sub hl [3, 4, 1, 0] rfl)
set_option maxHeartbeats 4000000 in
theorem walkX57_sum_disk {l : Launch} {dC : Nat → ClassId} {dI : Nat → Nat → Nat} {cl : List vw_C} {ci : Nat} (hc : cl[ci]? = some (RX57, TX57, 22)) {ad : Nat → Nat} {d : Nat → ClassId} {sz : Nat} {f_count : Int32} {f_runs : Int32} {f_full : Int32} {f_disk : Nat → Int32} {f_later : Nat → Int32} {f_open : Nat → Int32} {f_laid : Nat → Int32} {f_places : Nat → Int32} {f_changed : Int32} {f_targets : Nat → Int32} {f_bytes : Nat → Int32} {f_first : Int32} {f_behind : Int32} {f_numbers : Nat → Int32} {f_sectors : Nat → Int64} {f_oldest : Int32} {f_newest : Int32} {f_keptNumbers : Nat → Int32} {f_keptSectors : Nat → Int64} {f_kept : Int32} {f_thrown : Int32} {f_head : Nat → Int32} {x1 : Int32} {post : Int → Prop} (hw : wpX57_sum_disk post (zF f_disk) x1.toInt) :
    Met l yX57_sum (ws_ yX57_sum cX57_sum 5 (some .int)) ({ frames := 0, cells := 0, slots := 0, locals := 0 } : Room) (kPc (dC, dI) cl (tX57 d) [.ref (ad 1), .int x1] sz (wX57 ci ad d f_count f_runs f_full f_disk f_later f_open f_laid f_places f_changed f_targets f_bytes f_first f_behind f_numbers f_sectors f_oldest f_newest f_keptNumbers f_keptSectors f_kept f_thrown f_head)) (va_Qi (fun (r : Int32) (_ : Unit) => post r.toInt) (kB (dC, dI) cl (tX57 d) (va_A (wX57 ci ad d f_count f_runs f_full f_disk f_later f_open f_laid f_places f_changed f_targets f_bytes f_first f_behind f_numbers f_sectors f_oldest f_newest f_keptNumbers f_keptSectors f_kept f_thrown f_head) sz) (fun _ : Unit => (wX57 ci ad d f_count f_runs f_full f_disk f_later f_open f_laid f_places f_changed f_targets f_bytes f_first f_behind f_numbers f_sectors f_oldest f_newest f_keptNumbers f_keptSectors f_kept f_thrown f_head))) (va_A (wX57 ci ad d f_count f_runs f_full f_disk f_later f_open f_laid f_places f_changed f_targets f_bytes f_first f_behind f_numbers f_sectors f_oldest f_newest f_keptNumbers f_keptSectors f_kept f_thrown f_head) sz)) 0 0 (va_A (wX57 ci ad d f_count f_runs f_full f_disk f_later f_open f_laid f_places f_changed f_targets f_bytes f_first f_behind f_numbers f_sectors f_oldest f_newest f_keptNumbers f_keptSectors f_kept f_thrown f_head) sz) := by
  refine k_enter (by decide) (Nat.le_of_ble_eq_true rfl) ?_
  intro p e s m below meth c ls X hsz hH hl
  subst hsz
  generalize va_A (wX57 ci ad d f_count f_runs f_full f_disk f_later f_open f_laid f_places f_changed f_targets f_bytes f_first f_behind f_numbers f_sectors f_oldest f_newest f_keptNumbers f_keptSectors f_kept f_thrown f_head) s.heap.size = A at hH ⊢
  have hx := X.1.1
  have hb := X.1.2.1
  have hl : lv_has ls 5 [(0, .ref (ad 1)), (1, .int x1)] := hl
  unfold wpX57_sum_disk at hw
  refine lv_iconst (v := 0) hx hb dX57_sum_0 (by decide) ?_
  refine lv_istore_n (lv' := [(2, .int 0), (0, .ref (ad 1)), (1, .int x1)]) hx hb dX57_sum_1 rfl hl (by decide) rfl (fun ls hl => ?_)
  refine lv_iconst (v := 4) hx hb dX57_sum_2 (by decide) ?_
  refine lv_istore_n (lv' := [(3, .int 4), (2, .int 0), (0, .ref (ad 1)), (1, .int x1)]) hx hb dX57_sum_3 rfl hl (by decide) rfl (fun ls hl => ?_)
  obtain ⟨fu, hw⟩ := hw
  refine atX57_sum_disk_4 hc X ?_ fu 0 4 hw _ _ ls hH (lv_sub hl [2, 3, 1, 0] rfl)
  · intro x2_14 hw H locs ls hH hl
    refine lv_iload_n hx hb dX57_sum_43 rfl (lv_at hl 0 rfl) ?_
    exact k_iret (v := x2_14) X hH () hw rfl rfl dX57_sum_44
set_option maxHeartbeats 4000000 in
theorem walkX57_isRight_disk {l : Launch} {dC : Nat → ClassId} {dI : Nat → Nat → Nat} {cl : List vw_C} {ci : Nat} (hc : cl[ci]? = some (RX57, TX57, 22)) {ad : Nat → Nat} {d : Nat → ClassId} {sz : Nat} {f_count : Int32} {f_runs : Int32} {f_full : Int32} {f_disk : Nat → Int32} {f_later : Nat → Int32} {f_open : Nat → Int32} {f_laid : Nat → Int32} {f_places : Nat → Int32} {f_changed : Int32} {f_targets : Nat → Int32} {f_bytes : Nat → Int32} {f_first : Int32} {f_behind : Int32} {f_numbers : Nat → Int32} {f_sectors : Nat → Int64} {f_oldest : Int32} {f_newest : Int32} {f_keptNumbers : Nat → Int32} {f_keptSectors : Nat → Int64} {f_kept : Int32} {f_thrown : Int32} {f_head : Nat → Int32} {x1 : Int32} {post : Int → Prop} (hw : wpX57_isRight_disk post (zF f_disk) x1.toInt) :
    Met l yX57_isRight (ws_ yX57_isRight cX57_isRight 2 (some .boolean)) ({ frames := 1, cells := 0, slots := 0, locals := 24 } : Room) (kPc (dC, dI) cl (tX57 d) [.ref (ad 1), .int x1] sz (wX57 ci ad d f_count f_runs f_full f_disk f_later f_open f_laid f_places f_changed f_targets f_bytes f_first f_behind f_numbers f_sectors f_oldest f_newest f_keptNumbers f_keptSectors f_kept f_thrown f_head)) (va_Qi (fun (r : Int32) (_ : Unit) => post r.toInt) (kB (dC, dI) cl (tX57 d) (va_A (wX57 ci ad d f_count f_runs f_full f_disk f_later f_open f_laid f_places f_changed f_targets f_bytes f_first f_behind f_numbers f_sectors f_oldest f_newest f_keptNumbers f_keptSectors f_kept f_thrown f_head) sz) (fun _ : Unit => (wX57 ci ad d f_count f_runs f_full f_disk f_later f_open f_laid f_places f_changed f_targets f_bytes f_first f_behind f_numbers f_sectors f_oldest f_newest f_keptNumbers f_keptSectors f_kept f_thrown f_head))) (va_A (wX57 ci ad d f_count f_runs f_full f_disk f_later f_open f_laid f_places f_changed f_targets f_bytes f_first f_behind f_numbers f_sectors f_oldest f_newest f_keptNumbers f_keptSectors f_kept f_thrown f_head) sz)) 0 0 (va_A (wX57 ci ad d f_count f_runs f_full f_disk f_later f_open f_laid f_places f_changed f_targets f_bytes f_first f_behind f_numbers f_sectors f_oldest f_newest f_keptNumbers f_keptSectors f_kept f_thrown f_head) sz) := by
  refine k_enter (by decide) (Nat.le_of_ble_eq_true rfl) ?_
  intro p e s m below meth c ls X hsz hH hl
  subst hsz
  generalize va_A (wX57 ci ad d f_count f_runs f_full f_disk f_later f_open f_laid f_places f_changed f_targets f_bytes f_first f_behind f_numbers f_sectors f_oldest f_newest f_keptNumbers f_keptSectors f_kept f_thrown f_head) s.heap.size = A at hH ⊢
  have hx := X.1.1
  have hb := X.1.2.1
  have hl : lv_has ls 2 [(0, .ref (ad 1)), (1, .int x1)] := hl
  unfold wpX57_isRight_disk at hw
  refine lv_aload_n hx hb dX57_isRight_0 rfl (lv_at hl 0 rfl) ?_
  refine lv_bipush (v := 32) hx hb dX57_isRight_1 (by decide) ?_
  refine lv_iload_n hx hb dX57_isRight_3 rfl (lv_at hl 1 rfl) ?_
  refine lv_imul hx hb dX57_isRight_4 ?_
  have e_1 := z_mul (z_m (rfl : (32 : Int32).toInt = 32)) (z_m (rfl : x1.toInt = _))
  have hq_2 := hw.1
  have hw := hw.2
  have e_3 := z_x e_1 hq_2
  refine k_i0 hH (k_runS (As := [.ref (ad 1), .int (32 * x1)]) (rest := []) X hH.1 hH.2.1 X.2.2.2 (walkX57_number_disk hc (x1 := (32 * x1)) (f_count := f_count) (f_runs := f_runs) (f_full := f_full) (f_disk := f_disk) (f_later := f_later) (f_open := f_open) (f_laid := f_laid) (f_places := f_places) (f_changed := f_changed) (f_targets := f_targets) (f_bytes := f_bytes) (f_first := f_first) (f_behind := f_behind) (f_numbers := f_numbers) (f_sectors := f_sectors) (f_oldest := f_oldest) (f_newest := f_newest) (f_keptNumbers := f_keptNumbers) (f_keptSectors := f_keptSectors) (f_kept := f_kept) (f_thrown := f_thrown) (f_head := f_head) (by rw [show (32 * x1 : Int32).toInt = _ from e_3]; exact hw)) (va_cwS 2 X.1.2.2.2.2 gX57_88 rfl rfl rfl hX57_number ⟨Nat.le_of_ble_eq_true rfl, Nat.le_of_ble_eq_true rfl⟩) rfl hl.1 rfl (Nat.le_of_ble_eq_true rfl) dX57_isRight_5 ⟨Nat.le_refl 0, Nat.le_refl 0⟩) (fun r_4 _ H locs hw hH => ?_)
  have hH : kH (dC, dI) cl A s.heap H locs (wX57 ci ad d f_count f_runs f_full f_disk f_later f_open f_laid f_places f_changed f_targets f_bytes f_first f_behind f_numbers f_sectors f_oldest f_newest f_keptNumbers f_keptSectors f_kept f_thrown f_head) := hH
  refine lv_aload_n hx hb dX57_isRight_8 rfl (lv_at hl 0 rfl) ?_
  refine lv_iload_n hx hb dX57_isRight_9 rfl (lv_at hl 1 rfl) ?_
  refine k_i0 hH (k_runS (As := [.ref (ad 1), .int x1]) (rest := [.int r_4]) X hH.1 hH.2.1 X.2.2.2 (walkX57_sum_disk hc (x1 := x1) (f_count := f_count) (f_runs := f_runs) (f_full := f_full) (f_disk := f_disk) (f_later := f_later) (f_open := f_open) (f_laid := f_laid) (f_places := f_places) (f_changed := f_changed) (f_targets := f_targets) (f_bytes := f_bytes) (f_first := f_first) (f_behind := f_behind) (f_numbers := f_numbers) (f_sectors := f_sectors) (f_oldest := f_oldest) (f_newest := f_newest) (f_keptNumbers := f_keptNumbers) (f_keptSectors := f_keptSectors) (f_kept := f_kept) (f_thrown := f_thrown) (f_head := f_head) hw) (va_cwS 2 X.1.2.2.2.2 gX57_80 rfl rfl rfl hX57_sum ⟨Nat.le_of_ble_eq_true rfl, Nat.le_of_ble_eq_true rfl⟩) rfl hl.1 rfl (Nat.le_of_ble_eq_true rfl) dX57_isRight_10 ⟨Nat.le_refl 0, Nat.le_refl 0⟩) (fun r_5 _ H locs hw hH => ?_)
  have hH : kH (dC, dI) cl A s.heap H locs (wX57 ci ad d f_count f_runs f_full f_disk f_later f_open f_laid f_places f_changed f_targets f_bytes f_first f_behind f_numbers f_sectors f_oldest f_newest f_keptNumbers f_keptSectors f_kept f_thrown f_head) := hH
  refine lv_icmp_ne (tgt := 20) hx hb dX57_isRight_13 (by decide) (fun c_6 => ?_) (fun c_6 => ?_)
  · have hw := hw.2 (z_ne (rfl : r_4.toInt = _) (rfl : r_5.toInt = _) c_6)
    refine lv_iconst (v := 0) hx hb dX57_isRight_20 (by decide) ?_
    exact k_iret (v := 0) X hH () hw rfl rfl dX57_isRight_21
  · have hw := hw.1 (z_eq (rfl : r_4.toInt = _) (rfl : r_5.toInt = _) c_6)
    refine lv_iconst (v := 1) hx hb dX57_isRight_16 (by decide) ?_
    refine lv_goto (tgt := 21) hx hb dX57_isRight_17 (by decide) ?_
    exact k_iret (v := 1) X hH () hw rfl rfl dX57_isRight_21
set_option maxHeartbeats 4000000 in
theorem walkX57_wide_disk {l : Launch} {dC : Nat → ClassId} {dI : Nat → Nat → Nat} {cl : List vw_C} {ci : Nat} (hc : cl[ci]? = some (RX57, TX57, 22)) {ad : Nat → Nat} {d : Nat → ClassId} {sz : Nat} {f_count : Int32} {f_runs : Int32} {f_full : Int32} {f_disk : Nat → Int32} {f_later : Nat → Int32} {f_open : Nat → Int32} {f_laid : Nat → Int32} {f_places : Nat → Int32} {f_changed : Int32} {f_targets : Nat → Int32} {f_bytes : Nat → Int32} {f_first : Int32} {f_behind : Int32} {f_numbers : Nat → Int32} {f_sectors : Nat → Int64} {f_oldest : Int32} {f_newest : Int32} {f_keptNumbers : Nat → Int32} {f_keptSectors : Nat → Int64} {f_kept : Int32} {f_thrown : Int32} {f_head : Nat → Int32} {x1 : Int32} {post : Int → Prop} (hw : wpX57_wide_disk post (zF f_disk) x1.toInt) :
    Met l yX57_wide (ws_ yX57_wide cX57_wide 2 (some .long)) ({ frames := 1, cells := 0, slots := 0, locals := 21 } : Room) (kPc (dC, dI) cl (tX57 d) [.ref (ad 1), .int x1] sz (wX57 ci ad d f_count f_runs f_full f_disk f_later f_open f_laid f_places f_changed f_targets f_bytes f_first f_behind f_numbers f_sectors f_oldest f_newest f_keptNumbers f_keptSectors f_kept f_thrown f_head)) (va_Ql (fun (r : Int64) (_ : Unit) => post r.toInt) (kB (dC, dI) cl (tX57 d) (va_A (wX57 ci ad d f_count f_runs f_full f_disk f_later f_open f_laid f_places f_changed f_targets f_bytes f_first f_behind f_numbers f_sectors f_oldest f_newest f_keptNumbers f_keptSectors f_kept f_thrown f_head) sz) (fun _ : Unit => (wX57 ci ad d f_count f_runs f_full f_disk f_later f_open f_laid f_places f_changed f_targets f_bytes f_first f_behind f_numbers f_sectors f_oldest f_newest f_keptNumbers f_keptSectors f_kept f_thrown f_head))) (va_A (wX57 ci ad d f_count f_runs f_full f_disk f_later f_open f_laid f_places f_changed f_targets f_bytes f_first f_behind f_numbers f_sectors f_oldest f_newest f_keptNumbers f_keptSectors f_kept f_thrown f_head) sz)) 0 0 (va_A (wX57 ci ad d f_count f_runs f_full f_disk f_later f_open f_laid f_places f_changed f_targets f_bytes f_first f_behind f_numbers f_sectors f_oldest f_newest f_keptNumbers f_keptSectors f_kept f_thrown f_head) sz) := by
  refine k_enter (by decide) (Nat.le_of_ble_eq_true rfl) ?_
  intro p e s m below meth c ls X hsz hH hl
  subst hsz
  generalize va_A (wX57 ci ad d f_count f_runs f_full f_disk f_later f_open f_laid f_places f_changed f_targets f_bytes f_first f_behind f_numbers f_sectors f_oldest f_newest f_keptNumbers f_keptSectors f_kept f_thrown f_head) s.heap.size = A at hH ⊢
  have hx := X.1.1
  have hb := X.1.2.1
  have hl : lv_has ls 2 [(0, .ref (ad 1)), (1, .int x1)] := hl
  unfold wpX57_wide_disk at hw
  refine lv_aload_n hx hb dX57_wide_0 rfl (lv_at hl 0 rfl) ?_
  refine lv_iload_n hx hb dX57_wide_1 rfl (lv_at hl 1 rfl) ?_
  refine k_i0 hH (k_runS (As := [.ref (ad 1), .int x1]) (rest := []) X hH.1 hH.2.1 X.2.2.2 (walkX57_number_disk hc (x1 := x1) (f_count := f_count) (f_runs := f_runs) (f_full := f_full) (f_disk := f_disk) (f_later := f_later) (f_open := f_open) (f_laid := f_laid) (f_places := f_places) (f_changed := f_changed) (f_targets := f_targets) (f_bytes := f_bytes) (f_first := f_first) (f_behind := f_behind) (f_numbers := f_numbers) (f_sectors := f_sectors) (f_oldest := f_oldest) (f_newest := f_newest) (f_keptNumbers := f_keptNumbers) (f_keptSectors := f_keptSectors) (f_kept := f_kept) (f_thrown := f_thrown) (f_head := f_head) hw) (va_cwS 2 X.1.2.2.2.2 gX57_88 rfl rfl rfl hX57_number ⟨Nat.le_of_ble_eq_true rfl, Nat.le_of_ble_eq_true rfl⟩) rfl hl.1 rfl (Nat.le_of_ble_eq_true rfl) dX57_wide_2 ⟨Nat.le_refl 0, Nat.le_refl 0⟩) (fun r_1 _ H locs hw hH => ?_)
  have hH : kH (dC, dI) cl A s.heap H locs (wX57 ci ad d f_count f_runs f_full f_disk f_later f_open f_laid f_places f_changed f_targets f_bytes f_first f_behind f_numbers f_sectors f_oldest f_newest f_keptNumbers f_keptSectors f_kept f_thrown f_head) := hH
  refine lv_i2l (v := r_1.toInt64) hx hb dX57_wide_5 rfl ?_
  have e_2 := z_i2l (rfl : r_1.toInt = _)
  refine lv_bipush (v := 32) hx hb dX57_wide_6 (by decide) ?_
  refine lv_lshl (v := (r_1.toInt64) <<< ((32 : Int32).toInt64 &&& 63)) hx hb dX57_wide_8 rfl ?_
  have e_3 := zL_shl (zL_m e_2) (k := 32) (m := 32) (c := 4294967296) (by decide)
  refine lv_aload_n hx hb dX57_wide_9 rfl (lv_at hl 0 rfl) ?_
  refine lv_iload_n hx hb dX57_wide_10 rfl (lv_at hl 1 rfl) ?_
  refine lv_iconst (v := 4) hx hb dX57_wide_11 (by decide) ?_
  refine lv_iadd hx hb dX57_wide_12 ?_
  have e_4 := z_add (z_m (rfl : x1.toInt = _)) (z_m (rfl : (4 : Int32).toInt = 4))
  have hq_5 := hw.1
  have hw := hw.2
  have e_6 := z_x e_4 hq_5
  refine k_i0 hH (k_runS (As := [.ref (ad 1), .int (x1 + 4)]) (rest := [.long ((r_1.toInt64) <<< ((32 : Int32).toInt64 &&& 63))]) X hH.1 hH.2.1 X.2.2.2 (walkX57_number_disk hc (x1 := (x1 + 4)) (f_count := f_count) (f_runs := f_runs) (f_full := f_full) (f_disk := f_disk) (f_later := f_later) (f_open := f_open) (f_laid := f_laid) (f_places := f_places) (f_changed := f_changed) (f_targets := f_targets) (f_bytes := f_bytes) (f_first := f_first) (f_behind := f_behind) (f_numbers := f_numbers) (f_sectors := f_sectors) (f_oldest := f_oldest) (f_newest := f_newest) (f_keptNumbers := f_keptNumbers) (f_keptSectors := f_keptSectors) (f_kept := f_kept) (f_thrown := f_thrown) (f_head := f_head) (by rw [show (x1 + 4 : Int32).toInt = _ from e_6]; exact hw)) (va_cwS 2 X.1.2.2.2.2 gX57_88 rfl rfl rfl hX57_number ⟨Nat.le_of_ble_eq_true rfl, Nat.le_of_ble_eq_true rfl⟩) rfl hl.1 rfl (Nat.le_of_ble_eq_true rfl) dX57_wide_13 ⟨Nat.le_refl 0, Nat.le_refl 0⟩) (fun r_7 _ H locs hw hH => ?_)
  have hH : kH (dC, dI) cl A s.heap H locs (wX57 ci ad d f_count f_runs f_full f_disk f_later f_open f_laid f_places f_changed f_targets f_bytes f_first f_behind f_numbers f_sectors f_oldest f_newest f_keptNumbers f_keptSectors f_kept f_thrown f_head) := hH
  refine lv_i2l (v := r_7.toInt64) hx hb dX57_wide_16 rfl ?_
  have e_8 := z_i2l (rfl : r_7.toInt = _)
  refine lv_ldc2 (v := 4294967295) hx hb X.1.2.2.2.1 (X.1.2.2.2.2 _ q7820) dX57_wide_17 ?_
  refine lv_land hx hb dX57_wide_20 ?_
  have e_9 := zL_mask (zL_m e_8) (k := 32) (mm := 4294967295) (c := 4294967296) (by decide)
  refine lv_lor hx hb dX57_wide_21 ?_
  have e_10 := zL_or e_3 (zL_m e_9)
  exact k_lret (v := ((r_1.toInt64) <<< ((32 : Int32).toInt64 &&& 63)) ||| ((r_7.toInt64) &&& 4294967295)) X hH () (by rw [show (((r_1.toInt64) <<< ((32 : Int32).toInt64 &&& 63)) ||| ((r_7.toInt64) &&& 4294967295) : Int64).toInt = _ from e_10]; exact hw) rfl dX57_wide_22
set_option maxHeartbeats 4000000 in
theorem atX57_isWhole_175 {p : Program} {l : Launch} {e : Env} {s : State} {m : MethodId} {args : Array Value} {below : List Frame} {meth : Method} {c : Code} {dC : Nat → ClassId} {dI : Nat → Nat → Nat} {cl : List vw_C} {ci : Nat} (hc : cl[ci]? = some (RX57, TX57, 22)) {ad : Nat → Nat} {d : Nat → ClassId} {A : Nat → Prop} {post : Int → Prop} {f_count : Int32} {f_runs : Int32} {f_full : Int32} {f_disk : Nat → Int32} {f_later : Nat → Int32} {f_open : Nat → Int32} {f_laid : Nat → Int32} {f_places : Nat → Int32} {f_changed : Int32} {f_targets : Nat → Int32} {f_bytes : Nat → Int32} {f_first : Int32} {f_behind : Int32} {f_numbers : Nat → Int32} {f_sectors : Nat → Int64} {f_oldest : Int32} {f_newest : Int32} {f_keptNumbers : Nat → Int32} {f_keptSectors : Nat → Int64} {f_kept : Int32} {f_thrown : Int32} {f_head : Nat → Int32} (X : kX p s m args meth c cX57_isWhole 10 RX57 (some .boolean) (dC, dI) cl (tX57 d)) {K55 : Int → Int → Int → Int → Prop} {x2 : Int32} {x3 : Int64}  (hk55 : ∀ (x5 : Int32) (x6 : Int32) (x7 : Int32) (x8 : Int32), K55 x5.toInt x6.toInt x7.toInt x8.toInt → ∀ (H : Heap) (locs : List Loc) (ls : Array Slot), kH (dC, dI) cl A s.heap H locs (wX57 ci ad d f_count f_runs f_full f_disk f_later f_open f_laid f_places f_changed f_targets f_bytes f_first f_behind f_numbers f_sectors f_oldest f_newest f_keptNumbers f_keptSectors f_kept f_thrown f_head) → lv_has ls 10 [(0, .ref (ad 0)), (2, .int x2), (3, .long x3), (5, .int x5), (6, .int x6), (7, .int x7), (8, .int x8)] → W p l e ({ frames := 2, cells := 0, slots := 0, locals := 45 } : Room) s m args below meth c H locs 0 0 (MQ below (va_Qi (fun (r : Int32) (_ : Unit) => post r.toInt) (kB (dC, dI) cl (tX57 d) A (fun _ : Unit => (wX57 ci ad d f_count f_runs f_full f_disk f_later f_open f_laid f_places f_changed f_targets f_bytes f_first f_behind f_numbers f_sectors f_oldest f_newest f_keptNumbers f_keptSectors f_kept f_thrown f_head))) A) args s 0 0 A) (F0 m 55 ls [])) :
    ∀ (x5 : Int32) (x6 : Int32) (x8 : Int32) (x9 : Int32) (y0 : Int32), wX57_isWhole_175 K55 x5.toInt x6.toInt x8.toInt x9.toInt y0.toInt (zF f_disk) → ∀ (H : Heap) (locs : List Loc) (ls : Array Slot), kH (dC, dI) cl A s.heap H locs (wX57 ci ad d f_count f_runs f_full f_disk f_later f_open f_laid f_places f_changed f_targets f_bytes f_first f_behind f_numbers f_sectors f_oldest f_newest f_keptNumbers f_keptSectors f_kept f_thrown f_head) → lv_has ls 10 [(0, .ref (ad 0)), (2, .int x2), (3, .long x3), (5, .int x5), (6, .int x6), (8, .int x8), (9, .int x9)] → W p l e ({ frames := 2, cells := 0, slots := 0, locals := 45 } : Room) s m args below meth c H locs 0 0 (MQ below (va_Qi (fun (r : Int32) (_ : Unit) => post r.toInt) (kB (dC, dI) cl (tX57 d) A (fun _ : Unit => (wX57 ci ad d f_count f_runs f_full f_disk f_later f_open f_laid f_places f_changed f_targets f_bytes f_first f_behind f_numbers f_sectors f_oldest f_newest f_keptNumbers f_keptSectors f_kept f_thrown f_head))) A) args s 0 0 A) (F0 m 175 ls [.int y0]) := by
  have hx := X.1.1
  have hb := X.1.2.1
  intro x5 x6 x8 x9 y0 hw H locs ls hH hl
  unfold wX57_isWhole_175 at hw
  refine lv_istore (lv' := [(7, .int y0), (0, .ref (ad 0)), (2, .int x2), (3, .long x3), (5, .int x5), (6, .int x6), (8, .int x8), (9, .int x9)]) hx hb dX57_isWhole_175 hl (by decide) rfl (fun ls hl => ?_)
  refine lv_iload hx hb dX57_isWhole_177 (lv_at hl 0 rfl) ?_
  refine lv_if_eq (tgt := 191) hx hb dX57_isWhole_179 (by decide) (fun c_29 => ?_) (fun c_29 => ?_)
  · have hw := hw.1 (z_eq (rfl : y0.toInt = _) (rfl : (0 : Int32).toInt = 0) c_29)
    refine lv_iload hx hb dX57_isWhole_191 (lv_at hl 4 rfl) ?_
    refine lv_aload_n hx hb dX57_isWhole_193 rfl (lv_at hl 1 rfl) ?_
    refine k_get X hH in_X57 0 rfl hc 3 (by decide) q6793 rfl dX57_isWhole_194 ?_
    refine lv_bipush (v := 32) hx hb dX57_isWhole_197 (by decide) ?_
    refine lv_iload hx hb dX57_isWhole_199 (lv_at hl 6 rfl) ?_
    refine lv_imul hx hb dX57_isWhole_201 ?_
    have e_30 := z_mul (z_m (rfl : (32 : Int32).toInt = 32)) (z_m (rfl : x8.toInt = _))
    have hq_31 := hw.1
    have hw := hw.2
    have e_32 := z_x e_30 hq_31
    refine k_i0 hH (k_runS (As := [.ref (ad 1), .int (32 * x8)]) (rest := [.int x5]) X hH.1 hH.2.1 X.2.2.2 (walkX57_number_disk hc (x1 := (32 * x8)) (f_count := f_count) (f_runs := f_runs) (f_full := f_full) (f_disk := f_disk) (f_later := f_later) (f_open := f_open) (f_laid := f_laid) (f_places := f_places) (f_changed := f_changed) (f_targets := f_targets) (f_bytes := f_bytes) (f_first := f_first) (f_behind := f_behind) (f_numbers := f_numbers) (f_sectors := f_sectors) (f_oldest := f_oldest) (f_newest := f_newest) (f_keptNumbers := f_keptNumbers) (f_keptSectors := f_keptSectors) (f_kept := f_kept) (f_thrown := f_thrown) (f_head := f_head) (by rw [show (32 * x8 : Int32).toInt = _ from e_32]; exact hw)) (va_cwS 2 X.1.2.2.2.2 gX57_88 rfl rfl rfl hX57_number ⟨Nat.le_of_ble_eq_true rfl, Nat.le_of_ble_eq_true rfl⟩) rfl hl.1 rfl (Nat.le_of_ble_eq_true rfl) dX57_isWhole_202 ⟨Nat.le_refl 0, Nat.le_refl 0⟩) (fun r_33 _ H locs hw hH => ?_)
    have hH : kH (dC, dI) cl A s.heap H locs (wX57 ci ad d f_count f_runs f_full f_disk f_later f_open f_laid f_places f_changed f_targets f_bytes f_first f_behind f_numbers f_sectors f_oldest f_newest f_keptNumbers f_keptSectors f_kept f_thrown f_head) := hH
    refine lv_ixor hx hb dX57_isWhole_205 ?_
    have e_34 := z_xor (z_m (rfl : x5.toInt = _)) (z_m (rfl : r_33.toInt = _))
    refine lv_topi (fun x5_35 ex5_35 => ?_)
    have hw := hw x5_35.toInt (by rw [ex5_35]; exact e_34)
    refine lv_istore (lv' := [(5, .int x5_35), (7, .int y0), (0, .ref (ad 0)), (2, .int x2), (3, .long x3), (6, .int x6), (8, .int x8), (9, .int x9)]) hx hb dX57_isWhole_206 hl (by decide) rfl (fun ls hl => ?_)
    have hq_37 := hw.1
    have hw := hw.2
    obtain ⟨x8_36, ex8_36⟩ : ∃ y : Int32, y = x8 + 1 := ⟨_, rfl⟩
    have hw := hw x8_36.toInt (by rw [ex8_36]; exact (z_x (z_add (z_m (rfl : x8.toInt = _)) (z_m (rfl : (1 : Int32).toInt = 1))) hq_37))
    refine lv_iinc (v := x8_36) (lv' := [(8, .int x8_36), (5, .int x5_35), (7, .int y0), (0, .ref (ad 0)), (2, .int x2), (3, .long x3), (6, .int x6), (9, .int x9)]) hx hb dX57_isWhole_208 hl (k := 6) rfl (by rw [ex8_36]; rfl) (by decide) rfl (fun ls hl => ?_)
    refine lv_goto (tgt := 55) hx hb dX57_isWhole_211 (by decide) ?_
    exact hk55 x5_35 x6 y0 x8_36 hw _ _ ls hH (lv_sub hl [3, 4, 5, 1, 6, 2, 0] rfl)
  · have hw := hw.2 (z_neq (rfl : y0.toInt = _) (rfl : (0 : Int32).toInt = 0) c_29)
    refine lv_iload hx hb dX57_isWhole_182 (lv_at hl 5 rfl) ?_
    refine lv_iconst (v := 1) hx hb dX57_isWhole_184 (by decide) ?_
    refine lv_iload hx hb dX57_isWhole_185 (lv_at hl 7 rfl) ?_
    refine lv_ishl hx hb dX57_isWhole_187 ?_
    have hq_38 := hw.1
    have hw := hw.2
    have e_39 := z_one (rfl : x9.toInt = _) hq_38
    refine lv_ior hx hb dX57_isWhole_188 ?_
    have e_40 := z_or (z_m (rfl : x6.toInt = _)) (z_m e_39)
    refine lv_topi (fun x6_41 ex6_41 => ?_)
    have hw := hw x6_41.toInt (by rw [ex6_41]; exact e_40)
    refine lv_istore (lv' := [(6, .int x6_41), (7, .int y0), (0, .ref (ad 0)), (2, .int x2), (3, .long x3), (5, .int x5), (8, .int x8), (9, .int x9)]) hx hb dX57_isWhole_189 hl (by decide) rfl (fun ls hl => ?_)
    refine lv_iload hx hb dX57_isWhole_191 (lv_at hl 5 rfl) ?_
    refine lv_aload_n hx hb dX57_isWhole_193 rfl (lv_at hl 2 rfl) ?_
    refine k_get X hH in_X57 0 rfl hc 3 (by decide) q6793 rfl dX57_isWhole_194 ?_
    refine lv_bipush (v := 32) hx hb dX57_isWhole_197 (by decide) ?_
    refine lv_iload hx hb dX57_isWhole_199 (lv_at hl 6 rfl) ?_
    refine lv_imul hx hb dX57_isWhole_201 ?_
    have e_42 := z_mul (z_m (rfl : (32 : Int32).toInt = 32)) (z_m (rfl : x8.toInt = _))
    have hq_43 := hw.1
    have hw := hw.2
    have e_44 := z_x e_42 hq_43
    refine k_i0 hH (k_runS (As := [.ref (ad 1), .int (32 * x8)]) (rest := [.int x5]) X hH.1 hH.2.1 X.2.2.2 (walkX57_number_disk hc (x1 := (32 * x8)) (f_count := f_count) (f_runs := f_runs) (f_full := f_full) (f_disk := f_disk) (f_later := f_later) (f_open := f_open) (f_laid := f_laid) (f_places := f_places) (f_changed := f_changed) (f_targets := f_targets) (f_bytes := f_bytes) (f_first := f_first) (f_behind := f_behind) (f_numbers := f_numbers) (f_sectors := f_sectors) (f_oldest := f_oldest) (f_newest := f_newest) (f_keptNumbers := f_keptNumbers) (f_keptSectors := f_keptSectors) (f_kept := f_kept) (f_thrown := f_thrown) (f_head := f_head) (by rw [show (32 * x8 : Int32).toInt = _ from e_44]; exact hw)) (va_cwS 2 X.1.2.2.2.2 gX57_88 rfl rfl rfl hX57_number ⟨Nat.le_of_ble_eq_true rfl, Nat.le_of_ble_eq_true rfl⟩) rfl hl.1 rfl (Nat.le_of_ble_eq_true rfl) dX57_isWhole_202 ⟨Nat.le_refl 0, Nat.le_refl 0⟩) (fun r_45 _ H locs hw hH => ?_)
    have hH : kH (dC, dI) cl A s.heap H locs (wX57 ci ad d f_count f_runs f_full f_disk f_later f_open f_laid f_places f_changed f_targets f_bytes f_first f_behind f_numbers f_sectors f_oldest f_newest f_keptNumbers f_keptSectors f_kept f_thrown f_head) := hH
    refine lv_ixor hx hb dX57_isWhole_205 ?_
    have e_46 := z_xor (z_m (rfl : x5.toInt = _)) (z_m (rfl : r_45.toInt = _))
    refine lv_topi (fun x5_47 ex5_47 => ?_)
    have hw := hw x5_47.toInt (by rw [ex5_47]; exact e_46)
    refine lv_istore (lv' := [(5, .int x5_47), (6, .int x6_41), (7, .int y0), (0, .ref (ad 0)), (2, .int x2), (3, .long x3), (8, .int x8), (9, .int x9)]) hx hb dX57_isWhole_206 hl (by decide) rfl (fun ls hl => ?_)
    have hq_49 := hw.1
    have hw := hw.2
    obtain ⟨x8_48, ex8_48⟩ : ∃ y : Int32, y = x8 + 1 := ⟨_, rfl⟩
    have hw := hw x8_48.toInt (by rw [ex8_48]; exact (z_x (z_add (z_m (rfl : x8.toInt = _)) (z_m (rfl : (1 : Int32).toInt = 1))) hq_49))
    refine lv_iinc (v := x8_48) (lv' := [(8, .int x8_48), (5, .int x5_47), (6, .int x6_41), (7, .int y0), (0, .ref (ad 0)), (2, .int x2), (3, .long x3), (9, .int x9)]) hx hb dX57_isWhole_208 hl (k := 6) rfl (by rw [ex8_48]; rfl) (by decide) rfl (fun ls hl => ?_)
    refine lv_goto (tgt := 55) hx hb dX57_isWhole_211 (by decide) ?_
    exact hk55 x5_47 x6_41 y0 x8_48 hw _ _ ls hH (lv_sub hl [4, 5, 6, 1, 2, 3, 0] rfl)
set_option maxHeartbeats 4000000 in
theorem atX57_isWhole_55 {p : Program} {l : Launch} {e : Env} {s : State} {m : MethodId} {args : Array Value} {below : List Frame} {meth : Method} {c : Code} {dC : Nat → ClassId} {dI : Nat → Nat → Nat} {cl : List vw_C} {ci : Nat} (hc : cl[ci]? = some (RX57, TX57, 22)) {ad : Nat → Nat} {d : Nat → ClassId} {A : Nat → Prop} {post : Int → Prop} {f_count : Int32} {f_runs : Int32} {f_full : Int32} {f_disk : Nat → Int32} {f_later : Nat → Int32} {f_open : Nat → Int32} {f_laid : Nat → Int32} {f_places : Nat → Int32} {f_changed : Int32} {f_targets : Nat → Int32} {f_bytes : Nat → Int32} {f_first : Int32} {f_behind : Int32} {f_numbers : Nat → Int32} {f_sectors : Nat → Int64} {f_oldest : Int32} {f_newest : Int32} {f_keptNumbers : Nat → Int32} {f_keptSectors : Nat → Int64} {f_kept : Int32} {f_thrown : Int32} {f_head : Nat → Int32} (X : kX p s m args meth c cX57_isWhole 10 RX57 (some .boolean) (dC, dI) cl (tX57 d)) {K214 : Int → Int → Prop} {x2 : Int32} {x3 : Int64}  (hk214 : ∀ (x5 : Int32) (x7 : Int32), K214 x5.toInt x7.toInt → ∀ (H : Heap) (locs : List Loc) (ls : Array Slot), kH (dC, dI) cl A s.heap H locs (wX57 ci ad d f_count f_runs f_full f_disk f_later f_open f_laid f_places f_changed f_targets f_bytes f_first f_behind f_numbers f_sectors f_oldest f_newest f_keptNumbers f_keptSectors f_kept f_thrown f_head) → lv_has ls 10 [(0, .ref (ad 0)), (2, .int x2), (5, .int x5), (7, .int x7)] → W p l e ({ frames := 2, cells := 0, slots := 0, locals := 45 } : Room) s m args below meth c H locs 0 0 (MQ below (va_Qi (fun (r : Int32) (_ : Unit) => post r.toInt) (kB (dC, dI) cl (tX57 d) A (fun _ : Unit => (wX57 ci ad d f_count f_runs f_full f_disk f_later f_open f_laid f_places f_changed f_targets f_bytes f_first f_behind f_numbers f_sectors f_oldest f_newest f_keptNumbers f_keptSectors f_kept f_thrown f_head))) A) args s 0 0 A) (F0 m 214 ls [])) :
    ∀ (nn : Nat) (x5 : Int32) (x6 : Int32) (x7 : Int32) (x8 : Int32), wX57_isWhole_55 K214 x3.toInt f_count.toInt (zF f_disk) nn x5.toInt x6.toInt x7.toInt x8.toInt → ∀ (H : Heap) (locs : List Loc) (ls : Array Slot), kH (dC, dI) cl A s.heap H locs (wX57 ci ad d f_count f_runs f_full f_disk f_later f_open f_laid f_places f_changed f_targets f_bytes f_first f_behind f_numbers f_sectors f_oldest f_newest f_keptNumbers f_keptSectors f_kept f_thrown f_head) → lv_has ls 10 [(0, .ref (ad 0)), (2, .int x2), (3, .long x3), (5, .int x5), (6, .int x6), (7, .int x7), (8, .int x8)] → W p l e ({ frames := 2, cells := 0, slots := 0, locals := 45 } : Room) s m args below meth c H locs 0 0 (MQ below (va_Qi (fun (r : Int32) (_ : Unit) => post r.toInt) (kB (dC, dI) cl (tX57 d) A (fun _ : Unit => (wX57 ci ad d f_count f_runs f_full f_disk f_later f_open f_laid f_places f_changed f_targets f_bytes f_first f_behind f_numbers f_sectors f_oldest f_newest f_keptNumbers f_keptSectors f_kept f_thrown f_head))) A) args s 0 0 A) (F0 m 55 ls []) := by
  have hx := X.1.1
  have hb := X.1.2.1
  intro nn
  induction nn with
  | zero =>
    intro x5 x6 x7 x8 hw
    exact False.elim hw
  | succ n ih =>
    intro x5 x6 x7 x8 hw H locs ls hH hl
    rw [wX57_isWhole_55] at hw
    refine lv_iload hx hb dX57_isWhole_55 (lv_at hl 6 rfl) ?_
    refine lv_bipush (v := 64) hx hb dX57_isWhole_57 (by decide) ?_
    refine lv_icmp_ge (tgt := 214) hx hb dX57_isWhole_59 (by decide) (fun c_16 => ?_) (fun c_16 => ?_)
    · have hw := hw.1 (z_le (rfl : (64 : Int32).toInt = 64) (rfl : x8.toInt = _) c_16)
      exact hk214 x5 x7 hw _ _ ls hH (lv_sub hl [0, 1, 3, 5] rfl)
    · have hw := hw.2 (z_nle (rfl : (64 : Int32).toInt = 64) (rfl : x8.toInt = _) c_16)
      refine lv_iload hx hb dX57_isWhole_62 (lv_at hl 5 rfl) ?_
      refine lv_if_eq (tgt := 214) hx hb dX57_isWhole_64 (by decide) (fun c_17 => ?_) (fun c_17 => ?_)
      · have hw := hw.1 (z_eq (rfl : x7.toInt = _) (rfl : (0 : Int32).toInt = 0) c_17)
        exact hk214 x5 x7 hw _ _ ls hH (lv_sub hl [0, 1, 3, 5] rfl)
      · have hw := hw.2 (z_neq (rfl : x7.toInt = _) (rfl : (0 : Int32).toInt = 0) c_17)
        refine lv_lload_n hx hb dX57_isWhole_67 rfl (lv_at hl 2 rfl) ?_
        refine lv_iload hx hb dX57_isWhole_68 (lv_at hl 6 rfl) ?_
        refine lv_lshr (v := x3 >>> (x8.toInt64 &&& 63)) hx hb dX57_isWhole_70 rfl ?_
        have hq_18 := hw.1
        have hw := hw.2
        have e_19 := zL_shrV (rfl : x3.toInt = _) (rfl : x8.toInt = _) hq_18
        refine lv_lconst (v := 1) hx hb dX57_isWhole_71 (by decide) ?_
        refine lv_land hx hb dX57_isWhole_72 ?_
        have e_20 := zL_mask (zL_m e_19) (k := 1) (mm := 1) (c := 2) (by decide)
        refine lv_lconst (v := 0) hx hb dX57_isWhole_73 (by decide) ?_
        refine W.lcmp hx hb dX57_isWhole_74 ?_
        refine lv_if_ne (tgt := 81) hx hb dX57_isWhole_75 (by decide) (fun c_21 => ?_) (fun c_21 => ?_)
        · have hw := hw.2 (zL_ne e_20 (rfl : (0 : Int64).toInt = 0) (k_lc_ne.mp c_21))
          refine lv_aload_n hx hb dX57_isWhole_81 rfl (lv_at hl 0 rfl) ?_
          refine k_get X hH in_X57 0 rfl hc 3 (by decide) q6793 rfl dX57_isWhole_82 ?_
          refine lv_bipush (v := 32) hx hb dX57_isWhole_85 (by decide) ?_
          refine lv_iload hx hb dX57_isWhole_87 (lv_at hl 6 rfl) ?_
          refine lv_imul hx hb dX57_isWhole_89 ?_
          have e_22 := z_mul (z_m (rfl : (32 : Int32).toInt = 32)) (z_m (rfl : x8.toInt = _))
          refine lv_iconst (v := 5) hx hb dX57_isWhole_90 (by decide) ?_
          refine lv_iadd hx hb dX57_isWhole_91 ?_
          have e_23 := z_add e_22 (z_m (rfl : (5 : Int32).toInt = 5))
          have hq_24 := hw.1
          have hw := hw.2
          have e_25 := z_xi e_23 hq_24 (by decide)
          refine k_iald X hH 1 0 rfl rfl (z_in e_25 hq_24) dX57_isWhole_92 ?_
          have e_26 := z_ld (f := f_disk) e_25 hq_24.1
          refine lv_topi (fun x9_27 ex9_27 => ?_)
          have hw := hw x9_27.toInt (by rw [ex9_27]; exact e_26)
          refine lv_istore (lv' := [(9, .int x9_27), (0, .ref (ad 0)), (2, .int x2), (3, .long x3), (5, .int x5), (6, .int x6), (7, .int x7), (8, .int x8)]) hx hb dX57_isWhole_93 hl (by decide) rfl (fun ls hl => ?_)
          refine lv_iload hx hb dX57_isWhole_95 (lv_at hl 7 rfl) ?_
          refine lv_iconst (v := 1) hx hb dX57_isWhole_97 (by decide) ?_
          refine lv_icmp_le (tgt := 174) hx hb dX57_isWhole_98 (by decide) (fun c_28 => ?_) (fun c_28 => ?_)
          · have hw := hw.1 (z_le (rfl : x8.toInt = _) (rfl : (1 : Int32).toInt = 1) c_28)
            refine lv_iconst (v := 0) hx hb dX57_isWhole_174 (by decide) ?_
            exact atX57_isWhole_175 hc X (fun x5 x6 x7 x8 hw H locs ls hH hl => ih x5 x6 x7 x8 hw _ _ ls hH (lv_sub hl [0, 1, 2, 3, 4, 5, 6] rfl)) x5 x6 x8 x9_27 0 hw _ _ ls hH (lv_sub hl [1, 2, 3, 4, 5, 7, 0] rfl)
          · have hw := hw.2 (z_nle (rfl : x8.toInt = _) (rfl : (1 : Int32).toInt = 1) c_28)
            refine lv_iload hx hb dX57_isWhole_101 (lv_at hl 7 rfl) ?_
            refine lv_aload_n hx hb dX57_isWhole_103 rfl (lv_at hl 1 rfl) ?_
            refine k_get X hH in_X57 0 rfl hc 0 (by decide) q6790 rfl dX57_isWhole_104 ?_
            refine lv_icmp_ge (tgt := 174) hx hb dX57_isWhole_107 (by decide) (fun c_50 => ?_) (fun c_50 => ?_)
            · have hw := hw.1 (z_le (rfl : f_count.toInt = _) (rfl : x8.toInt = _) c_50)
              refine lv_iconst (v := 0) hx hb dX57_isWhole_174 (by decide) ?_
              exact atX57_isWhole_175 hc X (fun x5 x6 x7 x8 hw H locs ls hH hl => ih x5 x6 x7 x8 hw _ _ ls hH (lv_sub hl [0, 1, 2, 3, 4, 5, 6] rfl)) x5 x6 x8 x9_27 0 hw _ _ ls hH (lv_sub hl [1, 2, 3, 4, 5, 7, 0] rfl)
            · have hw := hw.2 (z_nle (rfl : f_count.toInt = _) (rfl : x8.toInt = _) c_50)
              refine lv_aload_n hx hb dX57_isWhole_110 rfl (lv_at hl 1 rfl) ?_
              refine k_get X hH in_X57 0 rfl hc 3 (by decide) q6793 rfl dX57_isWhole_111 ?_
              refine lv_iload hx hb dX57_isWhole_114 (lv_at hl 7 rfl) ?_
              refine k_i0 hH (k_runS (As := [.ref (ad 1), .int x8]) (rest := []) X hH.1 hH.2.1 X.2.2.2 (walkX57_isRight_disk hc (x1 := x8) (f_count := f_count) (f_runs := f_runs) (f_full := f_full) (f_disk := f_disk) (f_later := f_later) (f_open := f_open) (f_laid := f_laid) (f_places := f_places) (f_changed := f_changed) (f_targets := f_targets) (f_bytes := f_bytes) (f_first := f_first) (f_behind := f_behind) (f_numbers := f_numbers) (f_sectors := f_sectors) (f_oldest := f_oldest) (f_newest := f_newest) (f_keptNumbers := f_keptNumbers) (f_keptSectors := f_keptSectors) (f_kept := f_kept) (f_thrown := f_thrown) (f_head := f_head) hw) (va_cwS 2 X.1.2.2.2.2 gX57_150 rfl rfl rfl hX57_isRight ⟨Nat.le_of_ble_eq_true rfl, Nat.le_of_ble_eq_true rfl⟩) rfl hl.1 rfl (Nat.le_of_ble_eq_true rfl) dX57_isWhole_116 ⟨Nat.le_refl 0, Nat.le_refl 0⟩) (fun r_51 _ H locs hw hH => ?_)
              have hH : kH (dC, dI) cl A s.heap H locs (wX57 ci ad d f_count f_runs f_full f_disk f_later f_open f_laid f_places f_changed f_targets f_bytes f_first f_behind f_numbers f_sectors f_oldest f_newest f_keptNumbers f_keptSectors f_kept f_thrown f_head) := hH
              refine lv_if_eq (tgt := 174) hx hb dX57_isWhole_119 (by decide) (fun c_52 => ?_) (fun c_52 => ?_)
              · have hw := hw.1 (z_eq (rfl : r_51.toInt = _) (rfl : (0 : Int32).toInt = 0) c_52)
                refine lv_iconst (v := 0) hx hb dX57_isWhole_174 (by decide) ?_
                exact atX57_isWhole_175 hc X (fun x5 x6 x7 x8 hw H locs ls hH hl => ih x5 x6 x7 x8 hw _ _ ls hH (lv_sub hl [0, 1, 2, 3, 4, 5, 6] rfl)) x5 x6 x8 x9_27 0 hw _ _ ls hH (lv_sub hl [1, 2, 3, 4, 5, 7, 0] rfl)
              · have hw := hw.2 (z_neq (rfl : r_51.toInt = _) (rfl : (0 : Int32).toInt = 0) c_52)
                refine lv_aload_n hx hb dX57_isWhole_122 rfl (lv_at hl 1 rfl) ?_
                refine k_get X hH in_X57 0 rfl hc 3 (by decide) q6793 rfl dX57_isWhole_123 ?_
                refine lv_bipush (v := 32) hx hb dX57_isWhole_126 (by decide) ?_
                refine lv_iload hx hb dX57_isWhole_128 (lv_at hl 7 rfl) ?_
                refine lv_imul hx hb dX57_isWhole_130 ?_
                have e_53 := z_mul (z_m (rfl : (32 : Int32).toInt = 32)) (z_m (rfl : x8.toInt = _))
                refine lv_iconst (v := 4) hx hb dX57_isWhole_131 (by decide) ?_
                refine lv_iadd hx hb dX57_isWhole_132 ?_
                have e_54 := z_add e_53 (z_m (rfl : (4 : Int32).toInt = 4))
                have hq_55 := hw.1
                have hw := hw.2
                have e_56 := z_xi e_54 hq_55 (by decide)
                refine k_iald X hH 1 0 rfl rfl (z_in e_56 hq_55) dX57_isWhole_133 ?_
                have e_57 := z_ld (f := f_disk) e_56 hq_55.1
                refine lv_if_le (tgt := 174) hx hb dX57_isWhole_134 (by decide) (fun c_58 => ?_) (fun c_58 => ?_)
                · have hw := hw.1 (z_le e_57 (rfl : (0 : Int32).toInt = 0) c_58)
                  refine lv_iconst (v := 0) hx hb dX57_isWhole_174 (by decide) ?_
                  exact atX57_isWhole_175 hc X (fun x5 x6 x7 x8 hw H locs ls hH hl => ih x5 x6 x7 x8 hw _ _ ls hH (lv_sub hl [0, 1, 2, 3, 4, 5, 6] rfl)) x5 x6 x8 x9_27 0 hw _ _ ls hH (lv_sub hl [1, 2, 3, 4, 5, 7, 0] rfl)
                · have hw := hw.2 (z_nle e_57 (rfl : (0 : Int32).toInt = 0) c_58)
                  refine lv_aload_n hx hb dX57_isWhole_137 rfl (lv_at hl 1 rfl) ?_
                  refine k_get X hH in_X57 0 rfl hc 3 (by decide) q6793 rfl dX57_isWhole_138 ?_
                  refine lv_bipush (v := 32) hx hb dX57_isWhole_141 (by decide) ?_
                  refine lv_iload hx hb dX57_isWhole_143 (lv_at hl 7 rfl) ?_
                  refine lv_imul hx hb dX57_isWhole_145 ?_
                  have e_59 := z_mul (z_m (rfl : (32 : Int32).toInt = 32)) (z_m (rfl : x8.toInt = _))
                  refine lv_iconst (v := 4) hx hb dX57_isWhole_146 (by decide) ?_
                  refine lv_iadd hx hb dX57_isWhole_147 ?_
                  have e_60 := z_add e_59 (z_m (rfl : (4 : Int32).toInt = 4))
                  have e_61 := z_xi e_60 hq_55 (by decide)
                  refine k_iald X hH 1 0 rfl rfl (z_in e_61 hq_55) dX57_isWhole_148 ?_
                  have e_62 := z_ld (f := f_disk) e_61 hq_55.1
                  refine lv_iconst (v := 4) hx hb dX57_isWhole_149 (by decide) ?_
                  refine lv_icmp_ge (tgt := 174) hx hb dX57_isWhole_150 (by decide) (fun c_63 => ?_) (fun c_63 => ?_)
                  · have hw := hw.1 (z_le (rfl : (4 : Int32).toInt = 4) e_62 c_63)
                    refine lv_iconst (v := 0) hx hb dX57_isWhole_174 (by decide) ?_
                    exact atX57_isWhole_175 hc X (fun x5 x6 x7 x8 hw H locs ls hH hl => ih x5 x6 x7 x8 hw _ _ ls hH (lv_sub hl [0, 1, 2, 3, 4, 5, 6] rfl)) x5 x6 x8 x9_27 0 hw _ _ ls hH (lv_sub hl [1, 2, 3, 4, 5, 7, 0] rfl)
                  · have hw := hw.2 (z_nle (rfl : (4 : Int32).toInt = 4) e_62 c_63)
                    refine lv_iload hx hb dX57_isWhole_153 (lv_at hl 0 rfl) ?_
                    refine lv_bipush (v := 30) hx hb dX57_isWhole_155 (by decide) ?_
                    refine lv_icmp_ge (tgt := 174) hx hb dX57_isWhole_157 (by decide) (fun c_64 => ?_) (fun c_64 => ?_)
                    · have hw := hw.1 (z_le (rfl : (30 : Int32).toInt = 30) (rfl : x9_27.toInt = _) c_64)
                      refine lv_iconst (v := 0) hx hb dX57_isWhole_174 (by decide) ?_
                      exact atX57_isWhole_175 hc X (fun x5 x6 x7 x8 hw H locs ls hH hl => ih x5 x6 x7 x8 hw _ _ ls hH (lv_sub hl [0, 1, 2, 3, 4, 5, 6] rfl)) x5 x6 x8 x9_27 0 hw _ _ ls hH (lv_sub hl [1, 2, 3, 4, 5, 7, 0] rfl)
                    · have hw := hw.2 (z_nle (rfl : (30 : Int32).toInt = 30) (rfl : x9_27.toInt = _) c_64)
                      refine lv_iload hx hb dX57_isWhole_160 (lv_at hl 5 rfl) ?_
                      refine lv_iload hx hb dX57_isWhole_162 (lv_at hl 0 rfl) ?_
                      refine lv_ishr hx hb dX57_isWhole_164 ?_
                      have hq_65 := hw.1
                      have hw := hw.2
                      have e_66 := z_shrV (rfl : x6.toInt = _) (rfl : x9_27.toInt = _) hq_65
                      refine lv_iconst (v := 1) hx hb dX57_isWhole_165 (by decide) ?_
                      refine lv_iand hx hb dX57_isWhole_166 ?_
                      have e_67 := z_mask (z_m e_66) (k := 1) (m := 1) (c := 2) (by decide)
                      refine lv_if_ne (tgt := 174) hx hb dX57_isWhole_167 (by decide) (fun c_68 => ?_) (fun c_68 => ?_)
                      · have hw := hw.2 (z_ne e_67 (rfl : (0 : Int32).toInt = 0) c_68)
                        refine lv_iconst (v := 0) hx hb dX57_isWhole_174 (by decide) ?_
                        exact atX57_isWhole_175 hc X (fun x5 x6 x7 x8 hw H locs ls hH hl => ih x5 x6 x7 x8 hw _ _ ls hH (lv_sub hl [0, 1, 2, 3, 4, 5, 6] rfl)) x5 x6 x8 x9_27 0 hw _ _ ls hH (lv_sub hl [1, 2, 3, 4, 5, 7, 0] rfl)
                      · have hw := hw.1 (z_eq e_67 (rfl : (0 : Int32).toInt = 0) c_68)
                        refine lv_iconst (v := 1) hx hb dX57_isWhole_170 (by decide) ?_
                        refine lv_goto (tgt := 175) hx hb dX57_isWhole_171 (by decide) ?_
                        exact atX57_isWhole_175 hc X (fun x5 x6 x7 x8 hw H locs ls hH hl => ih x5 x6 x7 x8 hw _ _ ls hH (lv_sub hl [0, 1, 2, 3, 4, 5, 6] rfl)) x5 x6 x8 x9_27 1 hw _ _ ls hH (lv_sub hl [1, 2, 3, 4, 5, 7, 0] rfl)
        · have hw := hw.1 (zL_eq e_20 (rfl : (0 : Int64).toInt = 0) (k_lc_eq.mp c_21))
          refine lv_goto (tgt := 208) hx hb dX57_isWhole_78 (by decide) ?_
          have hq_70 := hw.1
          have hw := hw.2
          obtain ⟨x8_69, ex8_69⟩ : ∃ y : Int32, y = x8 + 1 := ⟨_, rfl⟩
          have hw := hw x8_69.toInt (by rw [ex8_69]; exact (z_x (z_add (z_m (rfl : x8.toInt = _)) (z_m (rfl : (1 : Int32).toInt = 1))) hq_70))
          refine lv_iinc (v := x8_69) (lv' := [(8, .int x8_69), (0, .ref (ad 0)), (2, .int x2), (3, .long x3), (5, .int x5), (6, .int x6), (7, .int x7)]) hx hb dX57_isWhole_208 hl (k := 6) rfl (by rw [ex8_69]; rfl) (by decide) rfl (fun ls hl => ?_)
          refine lv_goto (tgt := 55) hx hb dX57_isWhole_211 (by decide) ?_
          exact ih x5 x6 x7 x8_69 hw _ _ ls hH (lv_sub hl [1, 2, 3, 4, 5, 6, 0] rfl)
set_option maxHeartbeats 4000000 in
theorem atX57_isWhole_214 {p : Program} {l : Launch} {e : Env} {s : State} {m : MethodId} {args : Array Value} {below : List Frame} {meth : Method} {c : Code} {dC : Nat → ClassId} {dI : Nat → Nat → Nat} {cl : List vw_C} {ci : Nat} (hc : cl[ci]? = some (RX57, TX57, 22)) {ad : Nat → Nat} {d : Nat → ClassId} {A : Nat → Prop} {post : Int → Prop} {f_count : Int32} {f_runs : Int32} {f_full : Int32} {f_disk : Nat → Int32} {f_later : Nat → Int32} {f_open : Nat → Int32} {f_laid : Nat → Int32} {f_places : Nat → Int32} {f_changed : Int32} {f_targets : Nat → Int32} {f_bytes : Nat → Int32} {f_first : Int32} {f_behind : Int32} {f_numbers : Nat → Int32} {f_sectors : Nat → Int64} {f_oldest : Int32} {f_newest : Int32} {f_keptNumbers : Nat → Int32} {f_keptSectors : Nat → Int64} {f_kept : Int32} {f_thrown : Int32} {f_head : Nat → Int32} (X : kX p s m args meth c cX57_isWhole 10 RX57 (some .boolean) (dC, dI) cl (tX57 d))     :
    ∀ (x2 : Int32) (x5 : Int32) (x7 : Int32), wX57_isWhole_214 post x2.toInt x5.toInt x7.toInt (zF f_disk) → ∀ (H : Heap) (locs : List Loc) (ls : Array Slot), kH (dC, dI) cl A s.heap H locs (wX57 ci ad d f_count f_runs f_full f_disk f_later f_open f_laid f_places f_changed f_targets f_bytes f_first f_behind f_numbers f_sectors f_oldest f_newest f_keptNumbers f_keptSectors f_kept f_thrown f_head) → lv_has ls 10 [(0, .ref (ad 0)), (2, .int x2), (5, .int x5), (7, .int x7)] → W p l e ({ frames := 2, cells := 0, slots := 0, locals := 45 } : Room) s m args below meth c H locs 0 0 (MQ below (va_Qi (fun (r : Int32) (_ : Unit) => post r.toInt) (kB (dC, dI) cl (tX57 d) A (fun _ : Unit => (wX57 ci ad d f_count f_runs f_full f_disk f_later f_open f_laid f_places f_changed f_targets f_bytes f_first f_behind f_numbers f_sectors f_oldest f_newest f_keptNumbers f_keptSectors f_kept f_thrown f_head))) A) args s 0 0 A) (F0 m 214 ls []) := by
  have hx := X.1.1
  have hb := X.1.2.1
  intro x2 x5 x7 hw H locs ls hH hl
  unfold wX57_isWhole_214 at hw
  refine lv_iload hx hb dX57_isWhole_214 (lv_at hl 3 rfl) ?_
  refine lv_if_eq (tgt := 239) hx hb dX57_isWhole_216 (by decide) (fun c_73 => ?_) (fun c_73 => ?_)
  · have hw := hw.1 (z_eq (rfl : x7.toInt = _) (rfl : (0 : Int32).toInt = 0) c_73)
    refine lv_iconst (v := 0) hx hb dX57_isWhole_239 (by decide) ?_
    exact k_iret (v := 0) X hH () hw rfl rfl dX57_isWhole_240
  · have hw := hw.2 (z_neq (rfl : x7.toInt = _) (rfl : (0 : Int32).toInt = 0) c_73)
    refine lv_iload hx hb dX57_isWhole_219 (lv_at hl 2 rfl) ?_
    refine lv_aload_n hx hb dX57_isWhole_221 rfl (lv_at hl 0 rfl) ?_
    refine k_get X hH in_X57 0 rfl hc 3 (by decide) q6793 rfl dX57_isWhole_222 ?_
    refine lv_iload_n hx hb dX57_isWhole_225 rfl (lv_at hl 1 rfl) ?_
    refine lv_bipush (v := 20) hx hb dX57_isWhole_226 (by decide) ?_
    refine lv_iadd hx hb dX57_isWhole_228 ?_
    have e_74 := z_add (z_m (rfl : x2.toInt = _)) (z_m (rfl : (20 : Int32).toInt = 20))
    have hq_75 := hw.1
    have hw := hw.2
    have e_76 := z_x e_74 hq_75
    refine k_i0 hH (k_runS (As := [.ref (ad 1), .int (x2 + 20)]) (rest := [.int x5]) X hH.1 hH.2.1 X.2.2.2 (walkX57_number_disk hc (x1 := (x2 + 20)) (f_count := f_count) (f_runs := f_runs) (f_full := f_full) (f_disk := f_disk) (f_later := f_later) (f_open := f_open) (f_laid := f_laid) (f_places := f_places) (f_changed := f_changed) (f_targets := f_targets) (f_bytes := f_bytes) (f_first := f_first) (f_behind := f_behind) (f_numbers := f_numbers) (f_sectors := f_sectors) (f_oldest := f_oldest) (f_newest := f_newest) (f_keptNumbers := f_keptNumbers) (f_keptSectors := f_keptSectors) (f_kept := f_kept) (f_thrown := f_thrown) (f_head := f_head) (by rw [show (x2 + 20 : Int32).toInt = _ from e_76]; exact hw)) (va_cwS 2 X.1.2.2.2.2 gX57_88 rfl rfl rfl hX57_number ⟨Nat.le_of_ble_eq_true rfl, Nat.le_of_ble_eq_true rfl⟩) rfl hl.1 rfl (Nat.le_of_ble_eq_true rfl) dX57_isWhole_229 ⟨Nat.le_refl 0, Nat.le_refl 0⟩) (fun r_77 _ H locs hw hH => ?_)
    have hH : kH (dC, dI) cl A s.heap H locs (wX57 ci ad d f_count f_runs f_full f_disk f_later f_open f_laid f_places f_changed f_targets f_bytes f_first f_behind f_numbers f_sectors f_oldest f_newest f_keptNumbers f_keptSectors f_kept f_thrown f_head) := hH
    refine lv_icmp_ne (tgt := 239) hx hb dX57_isWhole_232 (by decide) (fun c_78 => ?_) (fun c_78 => ?_)
    · have hw := hw.2 (z_ne (rfl : x5.toInt = _) (rfl : r_77.toInt = _) c_78)
      refine lv_iconst (v := 0) hx hb dX57_isWhole_239 (by decide) ?_
      exact k_iret (v := 0) X hH () hw rfl rfl dX57_isWhole_240
    · have hw := hw.1 (z_eq (rfl : x5.toInt = _) (rfl : r_77.toInt = _) c_78)
      refine lv_iconst (v := 1) hx hb dX57_isWhole_235 (by decide) ?_
      refine lv_goto (tgt := 240) hx hb dX57_isWhole_236 (by decide) ?_
      exact k_iret (v := 1) X hH () hw rfl rfl dX57_isWhole_240
set_option maxHeartbeats 4000000 in
theorem walkX57_isWhole {l : Launch} {dC : Nat → ClassId} {dI : Nat → Nat → Nat} {cl : List vw_C} {ci : Nat} (hc : cl[ci]? = some (RX57, TX57, 22)) {ad : Nat → Nat} {d : Nat → ClassId} {sz : Nat} {f_count : Int32} {f_runs : Int32} {f_full : Int32} {f_disk : Nat → Int32} {f_later : Nat → Int32} {f_open : Nat → Int32} {f_laid : Nat → Int32} {f_places : Nat → Int32} {f_changed : Int32} {f_targets : Nat → Int32} {f_bytes : Nat → Int32} {f_first : Int32} {f_behind : Int32} {f_numbers : Nat → Int32} {f_sectors : Nat → Int64} {f_oldest : Int32} {f_newest : Int32} {f_keptNumbers : Nat → Int32} {f_keptSectors : Nat → Int64} {f_kept : Int32} {f_thrown : Int32} {f_head : Nat → Int32} {x1 : Int32} {post : Int → Prop} (hw : wpX57_isWhole post f_count.toInt (zF f_disk) x1.toInt) :
    Met l yX57_isWhole (ws_ yX57_isWhole cX57_isWhole 10 (some .boolean)) ({ frames := 2, cells := 0, slots := 0, locals := 45 } : Room) (kPc (dC, dI) cl (tX57 d) [.ref (ad 0), .int x1] sz (wX57 ci ad d f_count f_runs f_full f_disk f_later f_open f_laid f_places f_changed f_targets f_bytes f_first f_behind f_numbers f_sectors f_oldest f_newest f_keptNumbers f_keptSectors f_kept f_thrown f_head)) (va_Qi (fun (r : Int32) (_ : Unit) => post r.toInt) (kB (dC, dI) cl (tX57 d) (va_A (wX57 ci ad d f_count f_runs f_full f_disk f_later f_open f_laid f_places f_changed f_targets f_bytes f_first f_behind f_numbers f_sectors f_oldest f_newest f_keptNumbers f_keptSectors f_kept f_thrown f_head) sz) (fun _ : Unit => (wX57 ci ad d f_count f_runs f_full f_disk f_later f_open f_laid f_places f_changed f_targets f_bytes f_first f_behind f_numbers f_sectors f_oldest f_newest f_keptNumbers f_keptSectors f_kept f_thrown f_head))) (va_A (wX57 ci ad d f_count f_runs f_full f_disk f_later f_open f_laid f_places f_changed f_targets f_bytes f_first f_behind f_numbers f_sectors f_oldest f_newest f_keptNumbers f_keptSectors f_kept f_thrown f_head) sz)) 0 0 (va_A (wX57 ci ad d f_count f_runs f_full f_disk f_later f_open f_laid f_places f_changed f_targets f_bytes f_first f_behind f_numbers f_sectors f_oldest f_newest f_keptNumbers f_keptSectors f_kept f_thrown f_head) sz) := by
  refine k_enter (by decide) (Nat.le_of_ble_eq_true rfl) ?_
  intro p e s m below meth c ls X hsz hH hl
  subst hsz
  generalize va_A (wX57 ci ad d f_count f_runs f_full f_disk f_later f_open f_laid f_places f_changed f_targets f_bytes f_first f_behind f_numbers f_sectors f_oldest f_newest f_keptNumbers f_keptSectors f_kept f_thrown f_head) s.heap.size = A at hH ⊢
  have hx := X.1.1
  have hb := X.1.2.1
  have hl : lv_has ls 10 [(0, .ref (ad 0)), (1, .int x1)] := hl
  unfold wpX57_isWhole at hw
  refine lv_bipush (v := 32) hx hb dX57_isWhole_0 (by decide) ?_
  refine lv_iload_n hx hb dX57_isWhole_2 rfl (lv_at hl 1 rfl) ?_
  refine lv_imul hx hb dX57_isWhole_3 ?_
  have e_1 := z_mul (z_m (rfl : (32 : Int32).toInt = 32)) (z_m (rfl : x1.toInt = _))
  have hq_2 := hw.1
  have hw := hw.2
  have e_3 := z_x e_1 hq_2
  refine lv_topi (fun x2_4 ex2_4 => ?_)
  have hw := hw x2_4.toInt (by rw [ex2_4]; exact e_3)
  refine lv_istore_n (lv' := [(2, .int x2_4), (0, .ref (ad 0)), (1, .int x1)]) hx hb dX57_isWhole_4 rfl hl (by decide) rfl (fun ls hl => ?_)
  refine lv_aload_n hx hb dX57_isWhole_5 rfl (lv_at hl 1 rfl) ?_
  refine k_get X hH in_X57 0 rfl hc 3 (by decide) q6793 rfl dX57_isWhole_6 ?_
  refine lv_iload_n hx hb dX57_isWhole_9 rfl (lv_at hl 0 rfl) ?_
  refine lv_iconst (v := 4) hx hb dX57_isWhole_10 (by decide) ?_
  refine lv_iadd hx hb dX57_isWhole_11 ?_
  have e_5 := z_add (z_m (rfl : x2_4.toInt = _)) (z_m (rfl : (4 : Int32).toInt = 4))
  have hq_6 := hw.1
  have hw := hw.2
  have e_7 := z_xi e_5 hq_6 (by decide)
  refine k_iald X hH 1 0 rfl rfl (z_in e_7 hq_6) dX57_isWhole_12 ?_
  have e_8 := z_ld (f := f_disk) e_7 hq_6.1
  refine lv_bipush (v := 9) hx hb dX57_isWhole_13 (by decide) ?_
  refine lv_icmp_ne (tgt := 29) hx hb dX57_isWhole_15 (by decide) (fun c_9 => ?_) (fun c_9 => ?_)
  · have hw := hw.2 (z_ne e_8 (rfl : (9 : Int32).toInt = 9) c_9)
    refine lv_iconst (v := 0) hx hb dX57_isWhole_29 (by decide) ?_
    exact k_iret (v := 0) X hH () hw rfl rfl dX57_isWhole_30
  · have hw := hw.1 (z_eq e_8 (rfl : (9 : Int32).toInt = 9) c_9)
    refine lv_aload_n hx hb dX57_isWhole_18 rfl (lv_at hl 1 rfl) ?_
    refine k_get X hH in_X57 0 rfl hc 3 (by decide) q6793 rfl dX57_isWhole_19 ?_
    refine lv_iload_n hx hb dX57_isWhole_22 rfl (lv_at hl 2 rfl) ?_
    refine k_i0 hH (k_runS (As := [.ref (ad 1), .int x1]) (rest := []) X hH.1 hH.2.1 X.2.2.2 (walkX57_isRight_disk hc (x1 := x1) (f_count := f_count) (f_runs := f_runs) (f_full := f_full) (f_disk := f_disk) (f_later := f_later) (f_open := f_open) (f_laid := f_laid) (f_places := f_places) (f_changed := f_changed) (f_targets := f_targets) (f_bytes := f_bytes) (f_first := f_first) (f_behind := f_behind) (f_numbers := f_numbers) (f_sectors := f_sectors) (f_oldest := f_oldest) (f_newest := f_newest) (f_keptNumbers := f_keptNumbers) (f_keptSectors := f_keptSectors) (f_kept := f_kept) (f_thrown := f_thrown) (f_head := f_head) hw) (va_cwS 2 X.1.2.2.2.2 gX57_150 rfl rfl rfl hX57_isRight ⟨Nat.le_of_ble_eq_true rfl, Nat.le_of_ble_eq_true rfl⟩) rfl hl.1 rfl (Nat.le_of_ble_eq_true rfl) dX57_isWhole_23 ⟨Nat.le_refl 0, Nat.le_refl 0⟩) (fun r_10 _ H locs hw hH => ?_)
    have hH : kH (dC, dI) cl A s.heap H locs (wX57 ci ad d f_count f_runs f_full f_disk f_later f_open f_laid f_places f_changed f_targets f_bytes f_first f_behind f_numbers f_sectors f_oldest f_newest f_keptNumbers f_keptSectors f_kept f_thrown f_head) := hH
    refine lv_if_ne (tgt := 31) hx hb dX57_isWhole_26 (by decide) (fun c_11 => ?_) (fun c_11 => ?_)
    · have hw := hw.2 (z_ne (rfl : r_10.toInt = _) (rfl : (0 : Int32).toInt = 0) c_11)
      refine lv_aload_n hx hb dX57_isWhole_31 rfl (lv_at hl 1 rfl) ?_
      refine k_get X hH in_X57 0 rfl hc 3 (by decide) q6793 rfl dX57_isWhole_32 ?_
      refine lv_iload_n hx hb dX57_isWhole_35 rfl (lv_at hl 0 rfl) ?_
      refine lv_bipush (v := 8) hx hb dX57_isWhole_36 (by decide) ?_
      refine lv_iadd hx hb dX57_isWhole_38 ?_
      have e_12 := z_add (z_m (rfl : x2_4.toInt = _)) (z_m (rfl : (8 : Int32).toInt = 8))
      have hq_13 := hw.1
      have hw := hw.2
      have e_14 := z_x e_12 hq_13
      refine k_l0 hH (k_runS (As := [.ref (ad 1), .int (x2_4 + 8)]) (rest := []) X hH.1 hH.2.1 X.2.2.2 (walkX57_wide_disk hc (x1 := (x2_4 + 8)) (f_count := f_count) (f_runs := f_runs) (f_full := f_full) (f_disk := f_disk) (f_later := f_later) (f_open := f_open) (f_laid := f_laid) (f_places := f_places) (f_changed := f_changed) (f_targets := f_targets) (f_bytes := f_bytes) (f_first := f_first) (f_behind := f_behind) (f_numbers := f_numbers) (f_sectors := f_sectors) (f_oldest := f_oldest) (f_newest := f_newest) (f_keptNumbers := f_keptNumbers) (f_keptSectors := f_keptSectors) (f_kept := f_kept) (f_thrown := f_thrown) (f_head := f_head) (by rw [show (x2_4 + 8 : Int32).toInt = _ from e_14]; exact hw)) (va_cwS 2 X.1.2.2.2.2 gX57_93 rfl rfl rfl hX57_wide ⟨Nat.le_of_ble_eq_true rfl, Nat.le_of_ble_eq_true rfl⟩) rfl hl.1 rfl (Nat.le_of_ble_eq_true rfl) dX57_isWhole_39 ⟨Nat.le_refl 0, Nat.le_refl 0⟩) (fun r_15 _ H locs hw hH => ?_)
      have hH : kH (dC, dI) cl A s.heap H locs (wX57 ci ad d f_count f_runs f_full f_disk f_later f_open f_laid f_places f_changed f_targets f_bytes f_first f_behind f_numbers f_sectors f_oldest f_newest f_keptNumbers f_keptSectors f_kept f_thrown f_head) := hH
      refine lv_lstore_n (lv' := [(3, .long r_15), (2, .int x2_4), (0, .ref (ad 0)), (1, .int x1)]) hx hb dX57_isWhole_42 rfl hl (by decide) rfl (fun ls hl => ?_)
      refine lv_iconst (v := 0) hx hb dX57_isWhole_43 (by decide) ?_
      refine lv_istore (lv' := [(5, .int 0), (3, .long r_15), (2, .int x2_4), (0, .ref (ad 0)), (1, .int x1)]) hx hb dX57_isWhole_44 hl (by decide) rfl (fun ls hl => ?_)
      refine lv_iconst (v := 0) hx hb dX57_isWhole_46 (by decide) ?_
      refine lv_istore (lv' := [(6, .int 0), (5, .int 0), (3, .long r_15), (2, .int x2_4), (0, .ref (ad 0)), (1, .int x1)]) hx hb dX57_isWhole_47 hl (by decide) rfl (fun ls hl => ?_)
      refine lv_iconst (v := 1) hx hb dX57_isWhole_49 (by decide) ?_
      refine lv_istore (lv' := [(7, .int 1), (6, .int 0), (5, .int 0), (3, .long r_15), (2, .int x2_4), (0, .ref (ad 0)), (1, .int x1)]) hx hb dX57_isWhole_50 hl (by decide) rfl (fun ls hl => ?_)
      refine lv_iconst (v := 0) hx hb dX57_isWhole_52 (by decide) ?_
      refine lv_istore (lv' := [(8, .int 0), (7, .int 1), (6, .int 0), (5, .int 0), (3, .long r_15), (2, .int x2_4), (0, .ref (ad 0)), (1, .int x1)]) hx hb dX57_isWhole_53 hl (by decide) rfl (fun ls hl => ?_)
      obtain ⟨fu, hw⟩ := hw
      refine atX57_isWhole_55 hc X ?_ fu 0 0 1 0 hw _ _ ls hH (lv_sub hl [6, 5, 4, 3, 2, 1, 0] rfl)
      · intro x5_71 x7_72 hw H locs ls hH hl
        exact atX57_isWhole_214 hc X x2_4 x5_71 x7_72 hw _ _ ls hH (lv_sub hl [0, 1, 2, 3] rfl)
    · have hw := hw.1 (z_eq (rfl : r_10.toInt = _) (rfl : (0 : Int32).toInt = 0) c_11)
      refine lv_iconst (v := 0) hx hb dX57_isWhole_29 (by decide) ?_
      exact k_iret (v := 0) X hH () hw rfl rfl dX57_isWhole_30
set_option maxHeartbeats 4000000 in
theorem atX57_start_134 {p : Program} {l : Launch} {e : Env} {s : State} {m : MethodId} {args : Array Value} {below : List Frame} {meth : Method} {c : Code} {dC : Nat → ClassId} {dI : Nat → Nat → Nat} {cl : List vw_C} {ci : Nat} (hc : cl[ci]? = some (RX57, TX57, 22)) {ad : Nat → Nat} {d : Nat → ClassId} {A : Nat → Prop} {post : Int → Int → (Int → Int) → (Int → Int) → (Int → Int) → Int → Int → Int → (Int → Int) → (Int → Int) → Int → Int → Int → Prop} {f_count : Int32} {f_full : Int32} {f_disk : Nat → Int32} {f_open : Nat → Int32} {f_targets : Nat → Int32} {f_bytes : Nat → Int32} {f_keptNumbers : Nat → Int32} {f_keptSectors : Nat → Int64} {f_thrown : Int32} {f_head : Nat → Int32} (X : kX p s m args meth c cX57_start 7 RX57 (some .int) (dC, dI) cl (tX57 d)) {K185 : (Int → Int) → Prop}  {f_runs : Int32} {f_later : Nat → Int32} {f_laid : Nat → Int32} {f_changed : Int32} {f_first : Int32} {f_behind : Int32} {f_numbers : Nat → Int32} {f_sectors : Nat → Int64} {f_oldest : Int32} {f_newest : Int32} {f_kept : Int32} (hk185 : ∀ (f_places : Nat → Int32), K185 (zF f_places) → ∀ (H : Heap) (locs : List Loc) (ls : Array Slot), kH (dC, dI) cl A s.heap H locs (wX57 ci ad d f_count f_runs f_full f_disk f_later f_open f_laid f_places f_changed f_targets f_bytes f_first f_behind f_numbers f_sectors f_oldest f_newest f_keptNumbers f_keptSectors f_kept f_thrown f_head) → lv_has ls 7 [(0, .ref (ad 0))] → W p l e ({ frames := 3, cells := 0, slots := 0, locals := 74 } : Room) s m args below meth c H locs 0 0 (MQ below (va_Qi (fun (r : Int32) (u : Int32 × (Nat → Int32) × (Nat → Int32) × (Nat → Int32) × Int32 × Int32 × Int32 × (Nat → Int32) × (Nat → Int64) × Int32 × Int32 × Int32) => post r.toInt (u.1).toInt (zF (u.2.1)) (zF (u.2.2.1)) (zF (u.2.2.2.1)) (u.2.2.2.2.1).toInt (u.2.2.2.2.2.1).toInt (u.2.2.2.2.2.2.1).toInt (zF (u.2.2.2.2.2.2.2.1)) (zG (u.2.2.2.2.2.2.2.2.1)) (u.2.2.2.2.2.2.2.2.2.1).toInt (u.2.2.2.2.2.2.2.2.2.2.1).toInt (u.2.2.2.2.2.2.2.2.2.2.2).toInt) (kB (dC, dI) cl (tX57 d) A (fun u : Int32 × (Nat → Int32) × (Nat → Int32) × (Nat → Int32) × Int32 × Int32 × Int32 × (Nat → Int32) × (Nat → Int64) × Int32 × Int32 × Int32 => (wX57 ci ad d f_count (u.1) f_full f_disk (u.2.1) f_open (u.2.2.1) (u.2.2.2.1) (u.2.2.2.2.1) f_targets f_bytes (u.2.2.2.2.2.1) (u.2.2.2.2.2.2.1) (u.2.2.2.2.2.2.2.1) (u.2.2.2.2.2.2.2.2.1) (u.2.2.2.2.2.2.2.2.2.1) (u.2.2.2.2.2.2.2.2.2.2.1) f_keptNumbers f_keptSectors (u.2.2.2.2.2.2.2.2.2.2.2) f_thrown f_head))) A) args s 0 0 A) (F0 m 185 ls [])) :
    ∀ (nn : Nat) (x6 : Int32) (f_places : Nat → Int32), wX57_start_134 K185 (zF f_disk) (zG f_sectors) f_newest.toInt nn x6.toInt (zF f_places) → ∀ (H : Heap) (locs : List Loc) (ls : Array Slot), kH (dC, dI) cl A s.heap H locs (wX57 ci ad d f_count f_runs f_full f_disk f_later f_open f_laid f_places f_changed f_targets f_bytes f_first f_behind f_numbers f_sectors f_oldest f_newest f_keptNumbers f_keptSectors f_kept f_thrown f_head) → lv_has ls 7 [(0, .ref (ad 0)), (6, .int x6)] → W p l e ({ frames := 3, cells := 0, slots := 0, locals := 74 } : Room) s m args below meth c H locs 0 0 (MQ below (va_Qi (fun (r : Int32) (u : Int32 × (Nat → Int32) × (Nat → Int32) × (Nat → Int32) × Int32 × Int32 × Int32 × (Nat → Int32) × (Nat → Int64) × Int32 × Int32 × Int32) => post r.toInt (u.1).toInt (zF (u.2.1)) (zF (u.2.2.1)) (zF (u.2.2.2.1)) (u.2.2.2.2.1).toInt (u.2.2.2.2.2.1).toInt (u.2.2.2.2.2.2.1).toInt (zF (u.2.2.2.2.2.2.2.1)) (zG (u.2.2.2.2.2.2.2.2.1)) (u.2.2.2.2.2.2.2.2.2.1).toInt (u.2.2.2.2.2.2.2.2.2.2.1).toInt (u.2.2.2.2.2.2.2.2.2.2.2).toInt) (kB (dC, dI) cl (tX57 d) A (fun u : Int32 × (Nat → Int32) × (Nat → Int32) × (Nat → Int32) × Int32 × Int32 × Int32 × (Nat → Int32) × (Nat → Int64) × Int32 × Int32 × Int32 => (wX57 ci ad d f_count (u.1) f_full f_disk (u.2.1) f_open (u.2.2.1) (u.2.2.2.1) (u.2.2.2.2.1) f_targets f_bytes (u.2.2.2.2.2.1) (u.2.2.2.2.2.2.1) (u.2.2.2.2.2.2.2.1) (u.2.2.2.2.2.2.2.2.1) (u.2.2.2.2.2.2.2.2.2.1) (u.2.2.2.2.2.2.2.2.2.2.1) f_keptNumbers f_keptSectors (u.2.2.2.2.2.2.2.2.2.2.2) f_thrown f_head))) A) args s 0 0 A) (F0 m 134 ls []) := by
  have hx := X.1.1
  have hb := X.1.2.1
  intro nn
  induction nn with
  | zero =>
    intro x6 f_places hw
    exact False.elim hw
  | succ n ih =>
    intro x6 f_places hw H locs ls hH hl
    rw [wX57_start_134] at hw
    refine lv_iload hx hb dX57_start_134 (lv_at hl 1 rfl) ?_
    refine lv_bipush (v := 64) hx hb dX57_start_136 (by decide) ?_
    refine lv_icmp_ge (tgt := 185) hx hb dX57_start_138 (by decide) (fun c_31 => ?_) (fun c_31 => ?_)
    · have hw := hw.1 (z_le (rfl : (64 : Int32).toInt = 64) (rfl : x6.toInt = _) c_31)
      exact hk185 f_places hw _ _ ls hH (lv_sub hl [0] rfl)
    · have hw := hw.2 (z_nle (rfl : (64 : Int32).toInt = 64) (rfl : x6.toInt = _) c_31)
      refine lv_aload_n hx hb dX57_start_141 rfl (lv_at hl 0 rfl) ?_
      refine k_get X hH in_X57 0 rfl hc 14 (by decide) q6804 rfl dX57_start_142 ?_
      refine lv_aload_n hx hb dX57_start_145 rfl (lv_at hl 0 rfl) ?_
      refine k_get X hH in_X57 0 rfl hc 16 (by decide) q6806 rfl dX57_start_146 ?_
      have hq_32 := hw.1
      have hw := hw.2
      refine k_lald X hH 9 8 rfl rfl (z_in (rfl : f_newest.toInt = _) hq_32) dX57_start_149 ?_
      have e_33 := z_ldL (f := f_sectors) (rfl : f_newest.toInt = _) hq_32.1
      refine lv_iload hx hb dX57_start_150 (lv_at hl 1 rfl) ?_
      refine lv_lshr (v := (f_sectors f_newest.toNatClampNeg) >>> (x6.toInt64 &&& 63)) hx hb dX57_start_152 rfl ?_
      have hq_34 := hw.1
      have hw := hw.2
      have e_35 := zL_shrV e_33 (rfl : x6.toInt = _) hq_34
      refine lv_lconst (v := 1) hx hb dX57_start_153 (by decide) ?_
      refine lv_land hx hb dX57_start_154 ?_
      have e_36 := zL_mask (zL_m e_35) (k := 1) (mm := 1) (c := 2) (by decide)
      refine lv_lconst (v := 1) hx hb dX57_start_155 (by decide) ?_
      refine W.lcmp hx hb dX57_start_156 ?_
      refine lv_if_ne (tgt := 179) hx hb dX57_start_157 (by decide) (fun c_37 => ?_) (fun c_37 => ?_)
      · have hw := hw.2 (zL_ne e_36 (rfl : (1 : Int64).toInt = 1) (k_lc_ne.mp c_37))
        have hq_39 := hw.1
        have hw := hw.2
        obtain ⟨x6_38, ex6_38⟩ : ∃ y : Int32, y = x6 + 1 := ⟨_, rfl⟩
        have hw := hw x6_38.toInt (by rw [ex6_38]; exact (z_x (z_add (z_m (rfl : x6.toInt = _)) (z_m (rfl : (1 : Int32).toInt = 1))) hq_39))
        refine lv_iinc (v := x6_38) (lv' := [(6, .int x6_38), (0, .ref (ad 0))]) hx hb dX57_start_179 hl (k := 1) rfl (by rw [ex6_38]; rfl) (by decide) rfl (fun ls hl => ?_)
        refine lv_goto (tgt := 134) hx hb dX57_start_182 (by decide) ?_
        exact ih x6_38 f_places hw _ _ ls hH (lv_sub hl [1, 0] rfl)
      · have hw := hw.1 (zL_eq e_36 (rfl : (1 : Int64).toInt = 1) (k_lc_eq.mp c_37))
        refine lv_aload_n hx hb dX57_start_160 rfl (lv_at hl 0 rfl) ?_
        refine k_get X hH in_X57 0 rfl hc 7 (by decide) q6797 rfl dX57_start_161 ?_
        refine lv_aload_n hx hb dX57_start_164 rfl (lv_at hl 0 rfl) ?_
        refine k_get X hH in_X57 0 rfl hc 3 (by decide) q6793 rfl dX57_start_165 ?_
        refine lv_bipush (v := 32) hx hb dX57_start_168 (by decide) ?_
        refine lv_iload hx hb dX57_start_170 (lv_at hl 1 rfl) ?_
        refine lv_imul hx hb dX57_start_172 ?_
        have e_40 := z_mul (z_m (rfl : (32 : Int32).toInt = 32)) (z_m (rfl : x6.toInt = _))
        refine lv_iconst (v := 5) hx hb dX57_start_173 (by decide) ?_
        refine lv_iadd hx hb dX57_start_174 ?_
        have e_41 := z_add e_40 (z_m (rfl : (5 : Int32).toInt = 5))
        have hq_42 := hw.1
        have hw := hw.2
        have e_43 := z_xi e_41 hq_42 (by decide)
        refine k_iald X hH 1 0 rfl rfl (z_in e_43 hq_42) dX57_start_175 ?_
        have e_44 := z_ld (f := f_disk) e_43 hq_42.1
        refine lv_iload hx hb dX57_start_176 (lv_at hl 1 rfl) ?_
        have hq_46 := hw.1
        have hw := hw.2
        obtain ⟨f_places_45, ef_places_45⟩ : ∃ y : Nat → Int32, y = upd f_places (f_disk ((32 * x6) + 5).toNatClampNeg).toNatClampNeg x6 := ⟨_, rfl⟩
        refine k_iast X hH 5 4 rfl rfl (z_in e_44 hq_46) dX57_start_178 ef_places_45 (ws1 := (wX57 ci ad d f_count f_runs f_full f_disk f_later f_open f_laid f_places_45 f_changed f_targets f_bytes f_first f_behind f_numbers f_sectors f_oldest f_newest f_keptNumbers f_keptSectors f_kept f_thrown f_head)) rfl (fun H locs hH => ?_)
        have hw := hw (zF f_places_45) (by rw [ef_places_45]; exact z_st (f := f_places) e_44 hq_46.1 (rfl : x6.toInt = _))
        have hq_48 := hw.1
        have hw := hw.2
        obtain ⟨x6_47, ex6_47⟩ : ∃ y : Int32, y = x6 + 1 := ⟨_, rfl⟩
        have hw := hw x6_47.toInt (by rw [ex6_47]; exact (z_x (z_add (z_m (rfl : x6.toInt = _)) (z_m (rfl : (1 : Int32).toInt = 1))) hq_48))
        refine lv_iinc (v := x6_47) (lv' := [(6, .int x6_47), (0, .ref (ad 0))]) hx hb dX57_start_179 hl (k := 1) rfl (by rw [ex6_47]; rfl) (by decide) rfl (fun ls hl => ?_)
        refine lv_goto (tgt := 134) hx hb dX57_start_182 (by decide) ?_
        exact ih x6_47 f_places_45 hw _ _ ls hH (lv_sub hl [1, 0] rfl)
set_option maxHeartbeats 4000000 in
theorem atX57_start_98 {p : Program} {l : Launch} {e : Env} {s : State} {m : MethodId} {args : Array Value} {below : List Frame} {meth : Method} {c : Code} {dC : Nat → ClassId} {dI : Nat → Nat → Nat} {cl : List vw_C} {ci : Nat} (hc : cl[ci]? = some (RX57, TX57, 22)) {ad : Nat → Nat} {d : Nat → ClassId} {A : Nat → Prop} {post : Int → Int → (Int → Int) → (Int → Int) → (Int → Int) → Int → Int → Int → (Int → Int) → (Int → Int) → Int → Int → Int → Prop} {f_count : Int32} {f_full : Int32} {f_disk : Nat → Int32} {f_open : Nat → Int32} {f_targets : Nat → Int32} {f_bytes : Nat → Int32} {f_keptNumbers : Nat → Int32} {f_keptSectors : Nat → Int64} {f_thrown : Int32} {f_head : Nat → Int32} (X : kX p s m args meth c cX57_start 7 RX57 (some .int) (dC, dI) cl (tX57 d))     :
    ∀ (x5 : Int32) (y1 : Int32) (f_runs : Int32) (f_later : Nat → Int32) (f_laid : Nat → Int32) (f_places : Nat → Int32) (f_changed : Int32) (f_first : Int32) (f_behind : Int32) (f_numbers : Nat → Int32) (f_sectors : Nat → Int64) (f_oldest : Int32) (f_newest : Int32) (f_kept : Int32), wX57_start_98 post x5.toInt y1.toInt (zF f_disk) (zF f_later) (zF f_laid) (zF f_places) (zF f_numbers) (zG f_sectors) → ∀ (H : Heap) (locs : List Loc) (ls : Array Slot), kH (dC, dI) cl A s.heap H locs (wX57 ci ad d f_count f_runs f_full f_disk f_later f_open f_laid f_places f_changed f_targets f_bytes f_first f_behind f_numbers f_sectors f_oldest f_newest f_keptNumbers f_keptSectors f_kept f_thrown f_head) → lv_has ls 7 [(0, .ref (ad 0)), (5, .int x5)] → W p l e ({ frames := 3, cells := 0, slots := 0, locals := 74 } : Room) s m args below meth c H locs 0 0 (MQ below (va_Qi (fun (r : Int32) (u : Int32 × (Nat → Int32) × (Nat → Int32) × (Nat → Int32) × Int32 × Int32 × Int32 × (Nat → Int32) × (Nat → Int64) × Int32 × Int32 × Int32) => post r.toInt (u.1).toInt (zF (u.2.1)) (zF (u.2.2.1)) (zF (u.2.2.2.1)) (u.2.2.2.2.1).toInt (u.2.2.2.2.2.1).toInt (u.2.2.2.2.2.2.1).toInt (zF (u.2.2.2.2.2.2.2.1)) (zG (u.2.2.2.2.2.2.2.2.1)) (u.2.2.2.2.2.2.2.2.2.1).toInt (u.2.2.2.2.2.2.2.2.2.2.1).toInt (u.2.2.2.2.2.2.2.2.2.2.2).toInt) (kB (dC, dI) cl (tX57 d) A (fun u : Int32 × (Nat → Int32) × (Nat → Int32) × (Nat → Int32) × Int32 × Int32 × Int32 × (Nat → Int32) × (Nat → Int64) × Int32 × Int32 × Int32 => (wX57 ci ad d f_count (u.1) f_full f_disk (u.2.1) f_open (u.2.2.1) (u.2.2.2.1) (u.2.2.2.2.1) f_targets f_bytes (u.2.2.2.2.2.1) (u.2.2.2.2.2.2.1) (u.2.2.2.2.2.2.2.1) (u.2.2.2.2.2.2.2.2.1) (u.2.2.2.2.2.2.2.2.2.1) (u.2.2.2.2.2.2.2.2.2.2.1) f_keptNumbers f_keptSectors (u.2.2.2.2.2.2.2.2.2.2.2) f_thrown f_head))) A) args s 0 0 A) (F0 m 98 ls [.int y1, .ref (ad 0)]) := by
  have hx := X.1.1
  have hb := X.1.2.1
  intro x5 y1 f_runs f_later f_laid f_places f_changed f_first f_behind f_numbers f_sectors f_oldest f_newest f_kept hw H locs ls hH hl
  unfold wX57_start_98 at hw
  refine lv_iload hx hb dX57_start_98 (lv_at hl 1 rfl) ?_
  refine lv_iconst (v := (-1)) hx hb dX57_start_100 (by decide) ?_
  refine lv_icmp_ne (tgt := 108) hx hb dX57_start_101 (by decide) (fun c_14 => ?_) (fun c_14 => ?_)
  · have hw := hw.2 (z_ne (rfl : x5.toInt = _) (rfl : ((-1) : Int32).toInt = (-1)) c_14)
    refine lv_aload_n hx hb dX57_start_108 rfl (lv_at hl 0 rfl) ?_
    refine k_get X hH in_X57 0 rfl hc 3 (by decide) q6793 rfl dX57_start_109 ?_
    refine lv_bipush (v := 32) hx hb dX57_start_112 (by decide) ?_
    refine lv_iload hx hb dX57_start_114 (lv_at hl 1 rfl) ?_
    refine lv_imul hx hb dX57_start_116 ?_
    have e_15 := z_mul (z_m (rfl : (32 : Int32).toInt = 32)) (z_m (rfl : x5.toInt = _))
    refine lv_bipush (v := 8) hx hb dX57_start_117 (by decide) ?_
    refine lv_iadd hx hb dX57_start_119 ?_
    have e_16 := z_add e_15 (z_m (rfl : (8 : Int32).toInt = 8))
    have hq_17 := hw.1
    have hw := hw.2
    have e_18 := z_x e_16 hq_17
    refine k_l0 hH (k_runS (As := [.ref (ad 1), .int ((32 * x5) + 8)]) (rest := [.int y1, .ref (ad 0)]) X hH.1 hH.2.1 X.2.2.2 (walkX57_wide_disk hc (x1 := ((32 * x5) + 8)) (f_count := f_count) (f_runs := f_runs) (f_full := f_full) (f_disk := f_disk) (f_later := f_later) (f_open := f_open) (f_laid := f_laid) (f_places := f_places) (f_changed := f_changed) (f_targets := f_targets) (f_bytes := f_bytes) (f_first := f_first) (f_behind := f_behind) (f_numbers := f_numbers) (f_sectors := f_sectors) (f_oldest := f_oldest) (f_newest := f_newest) (f_keptNumbers := f_keptNumbers) (f_keptSectors := f_keptSectors) (f_kept := f_kept) (f_thrown := f_thrown) (f_head := f_head) (by rw [show ((32 * x5) + 8 : Int32).toInt = _ from e_18]; exact hw)) (va_cwS 2 X.1.2.2.2.2 gX57_93 rfl rfl rfl hX57_wide ⟨Nat.le_of_ble_eq_true rfl, Nat.le_of_ble_eq_true rfl⟩) rfl hl.1 rfl (Nat.le_of_ble_eq_true rfl) dX57_start_120 ⟨Nat.le_refl 0, Nat.le_refl 0⟩) (fun r_19 _ H locs hw hH => ?_)
    have hH : kH (dC, dI) cl A s.heap H locs (wX57 ci ad d f_count f_runs f_full f_disk f_later f_open f_laid f_places f_changed f_targets f_bytes f_first f_behind f_numbers f_sectors f_oldest f_newest f_keptNumbers f_keptSectors f_kept f_thrown f_head) := hH
    refine k_v0 hH (k_runV (As := [.int y1, .long r_19]) (rest := []) X hH.1 hH.2.1 X.2.2.2 (walkX57_begin hc (x1 := y1) (x2 := r_19) (f_count := f_count) (f_runs := f_runs) (f_full := f_full) (f_disk := f_disk) (f_later := f_later) (f_open := f_open) (f_laid := f_laid) (f_places := f_places) (f_changed := f_changed) (f_targets := f_targets) (f_bytes := f_bytes) (f_first := f_first) (f_behind := f_behind) (f_numbers := f_numbers) (f_sectors := f_sectors) (f_oldest := f_oldest) (f_newest := f_newest) (f_keptNumbers := f_keptNumbers) (f_keptSectors := f_keptSectors) (f_kept := f_kept) (f_thrown := f_thrown) (f_head := f_head) hw) (cwV 2 X.1.2.2.2.2 gX57_57 rfl rfl rfl hX57_begin ⟨Nat.le_of_ble_eq_true rfl, Nat.le_of_ble_eq_true rfl⟩) hc (q0 := 0) rfl rfl hl.1 rfl (Nat.le_of_ble_eq_true rfl) dX57_start_123 ⟨Nat.le_refl 0, Nat.le_refl 0⟩) (fun u H locs hw hH => ?_)
    obtain ⟨f_later_20, f_laid_21, f_places_22, f_changed_23, f_first_24, f_behind_25, f_numbers_26, f_sectors_27, f_oldest_28, f_newest_29, f_kept_30⟩ := u
    have hH : kH (dC, dI) cl A s.heap H locs (wX57 ci ad d f_count f_runs f_full f_disk f_later_20 f_open f_laid_21 f_places_22 f_changed_23 f_targets f_bytes f_first_24 f_behind_25 f_numbers_26 f_sectors_27 f_oldest_28 f_newest_29 f_keptNumbers f_keptSectors f_kept_30 f_thrown f_head) := hH
    refine lv_aload_n hx hb dX57_start_126 rfl (lv_at hl 0 rfl) ?_
    refine lv_iconst (v := 1) hx hb dX57_start_127 (by decide) ?_
    refine k_put X hH in_X57 tyX57_ok nmX57 0 rfl hc 1 (by decide) q6791 rfl (ty := .boolean) rfl rfl rfl (Nat.le_of_ble_eq_true rfl) dX57_start_128 (ws1 := (wX57 ci ad d f_count 1 f_full f_disk f_later_20 f_open f_laid_21 f_places_22 f_changed_23 f_targets f_bytes f_first_24 f_behind_25 f_numbers_26 f_sectors_27 f_oldest_28 f_newest_29 f_keptNumbers f_keptSectors f_kept_30 f_thrown f_head)) rfl (fun H locs hH => ?_)
    refine lv_iconst (v := 0) hx hb dX57_start_131 (by decide) ?_
    refine lv_istore (lv' := [(6, .int 0), (0, .ref (ad 0)), (5, .int x5)]) hx hb dX57_start_132 hl (by decide) rfl (fun ls hl => ?_)
    obtain ⟨fu, hw⟩ := hw
    refine atX57_start_134 hc X ?_ fu 0 f_places_22 hw _ _ ls hH (lv_sub hl [1, 0] rfl)
    · intro f_places_49 hw H locs ls hH hl
      refine lv_aload_n hx hb dX57_start_185 rfl (lv_at hl 0 rfl) ?_
      refine k_get X hH in_X57 0 rfl hc 13 (by decide) q6803 rfl dX57_start_186 ?_
      refine lv_aload_n hx hb dX57_start_189 rfl (lv_at hl 0 rfl) ?_
      refine k_get X hH in_X57 0 rfl hc 16 (by decide) q6806 rfl dX57_start_190 ?_
      have hq_50 := hw.1
      have hw := hw.2
      refine k_iald X hH 8 7 rfl rfl (z_in (rfl : f_newest_29.toInt = _) hq_50) dX57_start_193 ?_
      have e_51 := z_ld (f := f_numbers_26) (rfl : f_newest_29.toInt = _) hq_50.1
      exact k_iret (v := f_numbers_26 f_newest_29.toNatClampNeg) X hH (1, f_later_20, f_laid_21, f_places_49, f_changed_23, f_first_24, f_behind_25, f_numbers_26, f_sectors_27, f_oldest_28, f_newest_29, f_kept_30) (by rw [show (f_numbers_26 f_newest_29.toNatClampNeg : Int32).toInt = _ from e_51]; exact hw) rfl rfl dX57_start_194
  · have hw := hw.1 (z_eq (rfl : x5.toInt = _) (rfl : ((-1) : Int32).toInt = (-1)) c_14)
    refine lv_lconst (v := 0) hx hb dX57_start_104 (by decide) ?_
    refine lv_goto (tgt := 123) hx hb dX57_start_105 (by decide) ?_
    refine k_v0 hH (k_runV (As := [.int y1, .long 0]) (rest := []) X hH.1 hH.2.1 X.2.2.2 (walkX57_begin hc (x1 := y1) (x2 := 0) (f_count := f_count) (f_runs := f_runs) (f_full := f_full) (f_disk := f_disk) (f_later := f_later) (f_open := f_open) (f_laid := f_laid) (f_places := f_places) (f_changed := f_changed) (f_targets := f_targets) (f_bytes := f_bytes) (f_first := f_first) (f_behind := f_behind) (f_numbers := f_numbers) (f_sectors := f_sectors) (f_oldest := f_oldest) (f_newest := f_newest) (f_keptNumbers := f_keptNumbers) (f_keptSectors := f_keptSectors) (f_kept := f_kept) (f_thrown := f_thrown) (f_head := f_head) hw) (cwV 2 X.1.2.2.2.2 gX57_57 rfl rfl rfl hX57_begin ⟨Nat.le_of_ble_eq_true rfl, Nat.le_of_ble_eq_true rfl⟩) hc (q0 := 0) rfl rfl hl.1 rfl (Nat.le_of_ble_eq_true rfl) dX57_start_123 ⟨Nat.le_refl 0, Nat.le_refl 0⟩) (fun u H locs hw hH => ?_)
    obtain ⟨f_later_52, f_laid_53, f_places_54, f_changed_55, f_first_56, f_behind_57, f_numbers_58, f_sectors_59, f_oldest_60, f_newest_61, f_kept_62⟩ := u
    have hH : kH (dC, dI) cl A s.heap H locs (wX57 ci ad d f_count f_runs f_full f_disk f_later_52 f_open f_laid_53 f_places_54 f_changed_55 f_targets f_bytes f_first_56 f_behind_57 f_numbers_58 f_sectors_59 f_oldest_60 f_newest_61 f_keptNumbers f_keptSectors f_kept_62 f_thrown f_head) := hH
    refine lv_aload_n hx hb dX57_start_126 rfl (lv_at hl 0 rfl) ?_
    refine lv_iconst (v := 1) hx hb dX57_start_127 (by decide) ?_
    refine k_put X hH in_X57 tyX57_ok nmX57 0 rfl hc 1 (by decide) q6791 rfl (ty := .boolean) rfl rfl rfl (Nat.le_of_ble_eq_true rfl) dX57_start_128 (ws1 := (wX57 ci ad d f_count 1 f_full f_disk f_later_52 f_open f_laid_53 f_places_54 f_changed_55 f_targets f_bytes f_first_56 f_behind_57 f_numbers_58 f_sectors_59 f_oldest_60 f_newest_61 f_keptNumbers f_keptSectors f_kept_62 f_thrown f_head)) rfl (fun H locs hH => ?_)
    refine lv_iconst (v := 0) hx hb dX57_start_131 (by decide) ?_
    refine lv_istore (lv' := [(6, .int 0), (0, .ref (ad 0)), (5, .int x5)]) hx hb dX57_start_132 hl (by decide) rfl (fun ls hl => ?_)
    obtain ⟨fu, hw⟩ := hw
    refine atX57_start_134 hc X ?_ fu 0 f_places_54 hw _ _ ls hH (lv_sub hl [1, 0] rfl)
    · intro f_places_63 hw H locs ls hH hl
      refine lv_aload_n hx hb dX57_start_185 rfl (lv_at hl 0 rfl) ?_
      refine k_get X hH in_X57 0 rfl hc 13 (by decide) q6803 rfl dX57_start_186 ?_
      refine lv_aload_n hx hb dX57_start_189 rfl (lv_at hl 0 rfl) ?_
      refine k_get X hH in_X57 0 rfl hc 16 (by decide) q6806 rfl dX57_start_190 ?_
      have hq_64 := hw.1
      have hw := hw.2
      refine k_iald X hH 8 7 rfl rfl (z_in (rfl : f_newest_61.toInt = _) hq_64) dX57_start_193 ?_
      have e_65 := z_ld (f := f_numbers_58) (rfl : f_newest_61.toInt = _) hq_64.1
      exact k_iret (v := f_numbers_58 f_newest_61.toNatClampNeg) X hH (1, f_later_52, f_laid_53, f_places_63, f_changed_55, f_first_56, f_behind_57, f_numbers_58, f_sectors_59, f_oldest_60, f_newest_61, f_kept_62) (by rw [show (f_numbers_58 f_newest_61.toNatClampNeg : Int32).toInt = _ from e_65]; exact hw) rfl rfl dX57_start_194
set_option maxHeartbeats 4000000 in
theorem atX57_start_70 {p : Program} {l : Launch} {e : Env} {s : State} {m : MethodId} {args : Array Value} {below : List Frame} {meth : Method} {c : Code} {dC : Nat → ClassId} {dI : Nat → Nat → Nat} {cl : List vw_C} {ci : Nat} (hc : cl[ci]? = some (RX57, TX57, 22)) {ad : Nat → Nat} {d : Nat → ClassId} {A : Nat → Prop} {post : Int → Int → (Int → Int) → (Int → Int) → (Int → Int) → Int → Int → Int → (Int → Int) → (Int → Int) → Int → Int → Int → Prop} {f_count : Int32} {f_full : Int32} {f_disk : Nat → Int32} {f_open : Nat → Int32} {f_targets : Nat → Int32} {f_bytes : Nat → Int32} {f_keptNumbers : Nat → Int32} {f_keptSectors : Nat → Int64} {f_thrown : Int32} {f_head : Nat → Int32} (X : kX p s m args meth c cX57_start 7 RX57 (some .int) (dC, dI) cl (tX57 d))     :
    ∀ (y0 : Int32) (f_runs : Int32) (f_later : Nat → Int32) (f_laid : Nat → Int32) (f_places : Nat → Int32) (f_changed : Int32) (f_first : Int32) (f_behind : Int32) (f_numbers : Nat → Int32) (f_sectors : Nat → Int64) (f_oldest : Int32) (f_newest : Int32) (f_kept : Int32), wX57_start_70 post y0.toInt (zF f_disk) (zF f_later) (zF f_laid) (zF f_places) (zF f_numbers) (zG f_sectors) → ∀ (H : Heap) (locs : List Loc) (ls : Array Slot), kH (dC, dI) cl A s.heap H locs (wX57 ci ad d f_count f_runs f_full f_disk f_later f_open f_laid f_places f_changed f_targets f_bytes f_first f_behind f_numbers f_sectors f_oldest f_newest f_keptNumbers f_keptSectors f_kept f_thrown f_head) → lv_has ls 7 [(0, .ref (ad 0))] → W p l e ({ frames := 3, cells := 0, slots := 0, locals := 74 } : Room) s m args below meth c H locs 0 0 (MQ below (va_Qi (fun (r : Int32) (u : Int32 × (Nat → Int32) × (Nat → Int32) × (Nat → Int32) × Int32 × Int32 × Int32 × (Nat → Int32) × (Nat → Int64) × Int32 × Int32 × Int32) => post r.toInt (u.1).toInt (zF (u.2.1)) (zF (u.2.2.1)) (zF (u.2.2.2.1)) (u.2.2.2.2.1).toInt (u.2.2.2.2.2.1).toInt (u.2.2.2.2.2.2.1).toInt (zF (u.2.2.2.2.2.2.2.1)) (zG (u.2.2.2.2.2.2.2.2.1)) (u.2.2.2.2.2.2.2.2.2.1).toInt (u.2.2.2.2.2.2.2.2.2.2.1).toInt (u.2.2.2.2.2.2.2.2.2.2.2).toInt) (kB (dC, dI) cl (tX57 d) A (fun u : Int32 × (Nat → Int32) × (Nat → Int32) × (Nat → Int32) × Int32 × Int32 × Int32 × (Nat → Int32) × (Nat → Int64) × Int32 × Int32 × Int32 => (wX57 ci ad d f_count (u.1) f_full f_disk (u.2.1) f_open (u.2.2.1) (u.2.2.2.1) (u.2.2.2.2.1) f_targets f_bytes (u.2.2.2.2.2.1) (u.2.2.2.2.2.2.1) (u.2.2.2.2.2.2.2.1) (u.2.2.2.2.2.2.2.2.1) (u.2.2.2.2.2.2.2.2.2.1) (u.2.2.2.2.2.2.2.2.2.2.1) f_keptNumbers f_keptSectors (u.2.2.2.2.2.2.2.2.2.2.2) f_thrown f_head))) A) args s 0 0 A) (F0 m 70 ls [.int y0]) := by
  have hx := X.1.1
  have hb := X.1.2.1
  intro y0 f_runs f_later f_laid f_places f_changed f_first f_behind f_numbers f_sectors f_oldest f_newest f_kept hw H locs ls hH hl
  unfold wX57_start_70 at hw
  refine lv_istore (lv' := [(5, .int y0), (0, .ref (ad 0))]) hx hb dX57_start_70 hl (by decide) rfl (fun ls hl => ?_)
  refine lv_aload_n hx hb dX57_start_72 rfl (lv_at hl 1 rfl) ?_
  refine lv_iload hx hb dX57_start_73 (lv_at hl 0 rfl) ?_
  refine lv_iconst (v := (-1)) hx hb dX57_start_75 (by decide) ?_
  refine lv_icmp_ne (tgt := 83) hx hb dX57_start_76 (by decide) (fun c_8 => ?_) (fun c_8 => ?_)
  · have hw := hw.2 (z_ne (rfl : y0.toInt = _) (rfl : ((-1) : Int32).toInt = (-1)) c_8)
    refine lv_aload_n hx hb dX57_start_83 rfl (lv_at hl 1 rfl) ?_
    refine k_get X hH in_X57 0 rfl hc 3 (by decide) q6793 rfl dX57_start_84 ?_
    refine lv_bipush (v := 32) hx hb dX57_start_87 (by decide) ?_
    refine lv_iload hx hb dX57_start_89 (lv_at hl 0 rfl) ?_
    refine lv_imul hx hb dX57_start_91 ?_
    have e_9 := z_mul (z_m (rfl : (32 : Int32).toInt = 32)) (z_m (rfl : y0.toInt = _))
    refine lv_bipush (v := 16) hx hb dX57_start_92 (by decide) ?_
    refine lv_iadd hx hb dX57_start_94 ?_
    have e_10 := z_add e_9 (z_m (rfl : (16 : Int32).toInt = 16))
    have hq_11 := hw.1
    have hw := hw.2
    have e_12 := z_x e_10 hq_11
    refine k_i0 hH (k_runS (As := [.ref (ad 1), .int ((32 * y0) + 16)]) (rest := [.ref (ad 0)]) X hH.1 hH.2.1 X.2.2.2 (walkX57_number_disk hc (x1 := ((32 * y0) + 16)) (f_count := f_count) (f_runs := f_runs) (f_full := f_full) (f_disk := f_disk) (f_later := f_later) (f_open := f_open) (f_laid := f_laid) (f_places := f_places) (f_changed := f_changed) (f_targets := f_targets) (f_bytes := f_bytes) (f_first := f_first) (f_behind := f_behind) (f_numbers := f_numbers) (f_sectors := f_sectors) (f_oldest := f_oldest) (f_newest := f_newest) (f_keptNumbers := f_keptNumbers) (f_keptSectors := f_keptSectors) (f_kept := f_kept) (f_thrown := f_thrown) (f_head := f_head) (by rw [show ((32 * y0) + 16 : Int32).toInt = _ from e_12]; exact hw)) (va_cwS 2 X.1.2.2.2.2 gX57_88 rfl rfl rfl hX57_number ⟨Nat.le_of_ble_eq_true rfl, Nat.le_of_ble_eq_true rfl⟩) rfl hl.1 rfl (Nat.le_of_ble_eq_true rfl) dX57_start_95 ⟨Nat.le_refl 0, Nat.le_refl 0⟩) (fun r_13 _ H locs hw hH => ?_)
    have hH : kH (dC, dI) cl A s.heap H locs (wX57 ci ad d f_count f_runs f_full f_disk f_later f_open f_laid f_places f_changed f_targets f_bytes f_first f_behind f_numbers f_sectors f_oldest f_newest f_keptNumbers f_keptSectors f_kept f_thrown f_head) := hH
    exact atX57_start_98 hc X y0 r_13 f_runs f_later f_laid f_places f_changed f_first f_behind f_numbers f_sectors f_oldest f_newest f_kept hw _ _ ls hH (lv_sub hl [1, 0] rfl)
  · have hw := hw.1 (z_eq (rfl : y0.toInt = _) (rfl : ((-1) : Int32).toInt = (-1)) c_8)
    refine lv_iconst (v := 0) hx hb dX57_start_79 (by decide) ?_
    refine lv_goto (tgt := 98) hx hb dX57_start_80 (by decide) ?_
    exact atX57_start_98 hc X y0 0 f_runs f_later f_laid f_places f_changed f_first f_behind f_numbers f_sectors f_oldest f_newest f_kept hw _ _ ls hH (lv_sub hl [1, 0] rfl)
set_option maxHeartbeats 4000000 in
theorem walkX57_start {l : Launch} {dC : Nat → ClassId} {dI : Nat → Nat → Nat} {cl : List vw_C} {ci : Nat} (hc : cl[ci]? = some (RX57, TX57, 22)) {ad : Nat → Nat} {d : Nat → ClassId} {sz : Nat} {f_count : Int32} {f_runs : Int32} {f_full : Int32} {f_disk : Nat → Int32} {f_later : Nat → Int32} {f_open : Nat → Int32} {f_laid : Nat → Int32} {f_places : Nat → Int32} {f_changed : Int32} {f_targets : Nat → Int32} {f_bytes : Nat → Int32} {f_first : Int32} {f_behind : Int32} {f_numbers : Nat → Int32} {f_sectors : Nat → Int64} {f_oldest : Int32} {f_newest : Int32} {f_keptNumbers : Nat → Int32} {f_keptSectors : Nat → Int64} {f_kept : Int32} {f_thrown : Int32} {f_head : Nat → Int32}  {post : Int → Int → (Int → Int) → (Int → Int) → (Int → Int) → Int → Int → Int → (Int → Int) → (Int → Int) → Int → Int → Int → Prop} (hw : wpX57_start post f_count.toInt f_runs.toInt (zF f_disk) (zF f_later) (zF f_laid) (zF f_places) f_changed.toInt f_first.toInt f_behind.toInt (zF f_numbers) (zG f_sectors) f_oldest.toInt f_newest.toInt f_kept.toInt ) :
    Met l yX57_start (ws_ yX57_start cX57_start 7 (some .int)) ({ frames := 3, cells := 0, slots := 0, locals := 74 } : Room) (kPc (dC, dI) cl (tX57 d) [.ref (ad 0)] sz (wX57 ci ad d f_count f_runs f_full f_disk f_later f_open f_laid f_places f_changed f_targets f_bytes f_first f_behind f_numbers f_sectors f_oldest f_newest f_keptNumbers f_keptSectors f_kept f_thrown f_head)) (va_Qi (fun (r : Int32) (u : Int32 × (Nat → Int32) × (Nat → Int32) × (Nat → Int32) × Int32 × Int32 × Int32 × (Nat → Int32) × (Nat → Int64) × Int32 × Int32 × Int32) => post r.toInt (u.1).toInt (zF (u.2.1)) (zF (u.2.2.1)) (zF (u.2.2.2.1)) (u.2.2.2.2.1).toInt (u.2.2.2.2.2.1).toInt (u.2.2.2.2.2.2.1).toInt (zF (u.2.2.2.2.2.2.2.1)) (zG (u.2.2.2.2.2.2.2.2.1)) (u.2.2.2.2.2.2.2.2.2.1).toInt (u.2.2.2.2.2.2.2.2.2.2.1).toInt (u.2.2.2.2.2.2.2.2.2.2.2).toInt) (kB (dC, dI) cl (tX57 d) (va_A (wX57 ci ad d f_count f_runs f_full f_disk f_later f_open f_laid f_places f_changed f_targets f_bytes f_first f_behind f_numbers f_sectors f_oldest f_newest f_keptNumbers f_keptSectors f_kept f_thrown f_head) sz) (fun u : Int32 × (Nat → Int32) × (Nat → Int32) × (Nat → Int32) × Int32 × Int32 × Int32 × (Nat → Int32) × (Nat → Int64) × Int32 × Int32 × Int32 => (wX57 ci ad d f_count (u.1) f_full f_disk (u.2.1) f_open (u.2.2.1) (u.2.2.2.1) (u.2.2.2.2.1) f_targets f_bytes (u.2.2.2.2.2.1) (u.2.2.2.2.2.2.1) (u.2.2.2.2.2.2.2.1) (u.2.2.2.2.2.2.2.2.1) (u.2.2.2.2.2.2.2.2.2.1) (u.2.2.2.2.2.2.2.2.2.2.1) f_keptNumbers f_keptSectors (u.2.2.2.2.2.2.2.2.2.2.2) f_thrown f_head))) (va_A (wX57 ci ad d f_count f_runs f_full f_disk f_later f_open f_laid f_places f_changed f_targets f_bytes f_first f_behind f_numbers f_sectors f_oldest f_newest f_keptNumbers f_keptSectors f_kept f_thrown f_head) sz)) 0 0 (va_A (wX57 ci ad d f_count f_runs f_full f_disk f_later f_open f_laid f_places f_changed f_targets f_bytes f_first f_behind f_numbers f_sectors f_oldest f_newest f_keptNumbers f_keptSectors f_kept f_thrown f_head) sz) := by
  refine k_enter (by decide) (Nat.le_of_ble_eq_true rfl) ?_
  intro p e s m below meth c ls X hsz hH hl
  subst hsz
  generalize va_A (wX57 ci ad d f_count f_runs f_full f_disk f_later f_open f_laid f_places f_changed f_targets f_bytes f_first f_behind f_numbers f_sectors f_oldest f_newest f_keptNumbers f_keptSectors f_kept f_thrown f_head) s.heap.size = A at hH ⊢
  have hx := X.1.1
  have hb := X.1.2.1
  have hl : lv_has ls 7 [(0, .ref (ad 0))] := hl
  unfold wpX57_start at hw
  refine lv_aload_n hx hb dX57_start_0 rfl (lv_at hl 0 rfl) ?_
  refine k_get X hH in_X57 0 rfl hc 1 (by decide) q6791 rfl dX57_start_1 ?_
  refine lv_if_eq (tgt := 10) hx hb dX57_start_4 (by decide) (fun c_1 => ?_) (fun c_1 => ?_)
  · have hw := hw.1 (z_eq (rfl : f_runs.toInt = _) (rfl : (0 : Int32).toInt = 0) c_1)
    refine lv_aload_n hx hb dX57_start_10 rfl (lv_at hl 0 rfl) ?_
    refine lv_iconst (v := 0) hx hb dX57_start_11 (by decide) ?_
    refine k_i0 hH (k_runV (As := [.int 0]) (rest := []) X hH.1 hH.2.1 X.2.2.2 (walkX57_isWhole hc (x1 := 0) (f_count := f_count) (f_runs := f_runs) (f_full := f_full) (f_disk := f_disk) (f_later := f_later) (f_open := f_open) (f_laid := f_laid) (f_places := f_places) (f_changed := f_changed) (f_targets := f_targets) (f_bytes := f_bytes) (f_first := f_first) (f_behind := f_behind) (f_numbers := f_numbers) (f_sectors := f_sectors) (f_oldest := f_oldest) (f_newest := f_newest) (f_keptNumbers := f_keptNumbers) (f_keptSectors := f_keptSectors) (f_kept := f_kept) (f_thrown := f_thrown) (f_head := f_head) hw) (cwV 1 X.1.2.2.2.2 gX57_165 rfl rfl rfl hX57_isWhole ⟨Nat.le_of_ble_eq_true rfl, Nat.le_of_ble_eq_true rfl⟩) hc (q0 := 0) rfl rfl hl.1 rfl (Nat.le_of_ble_eq_true rfl) dX57_start_12 ⟨Nat.le_refl 0, Nat.le_refl 0⟩) (fun r_2 _ H locs hw hH => ?_)
    have hH : kH (dC, dI) cl A s.heap H locs (wX57 ci ad d f_count f_runs f_full f_disk f_later f_open f_laid f_places f_changed f_targets f_bytes f_first f_behind f_numbers f_sectors f_oldest f_newest f_keptNumbers f_keptSectors f_kept f_thrown f_head) := hH
    refine lv_istore_n (lv' := [(1, .int r_2), (0, .ref (ad 0))]) hx hb dX57_start_15 rfl hl (by decide) rfl (fun ls hl => ?_)
    refine lv_aload_n hx hb dX57_start_16 rfl (lv_at hl 1 rfl) ?_
    refine lv_iconst (v := 1) hx hb dX57_start_17 (by decide) ?_
    refine k_i0 hH (k_runV (As := [.int 1]) (rest := []) X hH.1 hH.2.1 X.2.2.2 (walkX57_isWhole hc (x1 := 1) (f_count := f_count) (f_runs := f_runs) (f_full := f_full) (f_disk := f_disk) (f_later := f_later) (f_open := f_open) (f_laid := f_laid) (f_places := f_places) (f_changed := f_changed) (f_targets := f_targets) (f_bytes := f_bytes) (f_first := f_first) (f_behind := f_behind) (f_numbers := f_numbers) (f_sectors := f_sectors) (f_oldest := f_oldest) (f_newest := f_newest) (f_keptNumbers := f_keptNumbers) (f_keptSectors := f_keptSectors) (f_kept := f_kept) (f_thrown := f_thrown) (f_head := f_head) hw) (cwV 1 X.1.2.2.2.2 gX57_165 rfl rfl rfl hX57_isWhole ⟨Nat.le_of_ble_eq_true rfl, Nat.le_of_ble_eq_true rfl⟩) hc (q0 := 0) rfl rfl hl.1 rfl (Nat.le_of_ble_eq_true rfl) dX57_start_18 ⟨Nat.le_refl 0, Nat.le_refl 0⟩) (fun r_3 _ H locs hw hH => ?_)
    have hH : kH (dC, dI) cl A s.heap H locs (wX57 ci ad d f_count f_runs f_full f_disk f_later f_open f_laid f_places f_changed f_targets f_bytes f_first f_behind f_numbers f_sectors f_oldest f_newest f_keptNumbers f_keptSectors f_kept f_thrown f_head) := hH
    refine lv_istore_n (lv' := [(2, .int r_3), (1, .int r_2), (0, .ref (ad 0))]) hx hb dX57_start_21 rfl hl (by decide) rfl (fun ls hl => ?_)
    refine lv_aload_n hx hb dX57_start_22 rfl (lv_at hl 2 rfl) ?_
    refine k_get X hH in_X57 0 rfl hc 3 (by decide) q6793 rfl dX57_start_23 ?_
    refine lv_bipush (v := 16) hx hb dX57_start_26 (by decide) ?_
    refine k_i0 hH (k_runS (As := [.ref (ad 1), .int 16]) (rest := []) X hH.1 hH.2.1 X.2.2.2 (walkX57_number_disk hc (x1 := 16) (f_count := f_count) (f_runs := f_runs) (f_full := f_full) (f_disk := f_disk) (f_later := f_later) (f_open := f_open) (f_laid := f_laid) (f_places := f_places) (f_changed := f_changed) (f_targets := f_targets) (f_bytes := f_bytes) (f_first := f_first) (f_behind := f_behind) (f_numbers := f_numbers) (f_sectors := f_sectors) (f_oldest := f_oldest) (f_newest := f_newest) (f_keptNumbers := f_keptNumbers) (f_keptSectors := f_keptSectors) (f_kept := f_kept) (f_thrown := f_thrown) (f_head := f_head) hw) (va_cwS 2 X.1.2.2.2.2 gX57_88 rfl rfl rfl hX57_number ⟨Nat.le_of_ble_eq_true rfl, Nat.le_of_ble_eq_true rfl⟩) rfl hl.1 rfl (Nat.le_of_ble_eq_true rfl) dX57_start_28 ⟨Nat.le_refl 0, Nat.le_refl 0⟩) (fun r_4 _ H locs hw hH => ?_)
    have hH : kH (dC, dI) cl A s.heap H locs (wX57 ci ad d f_count f_runs f_full f_disk f_later f_open f_laid f_places f_changed f_targets f_bytes f_first f_behind f_numbers f_sectors f_oldest f_newest f_keptNumbers f_keptSectors f_kept f_thrown f_head) := hH
    refine lv_istore_n (lv' := [(3, .int r_4), (2, .int r_3), (1, .int r_2), (0, .ref (ad 0))]) hx hb dX57_start_31 rfl hl (by decide) rfl (fun ls hl => ?_)
    refine lv_aload_n hx hb dX57_start_32 rfl (lv_at hl 3 rfl) ?_
    refine k_get X hH in_X57 0 rfl hc 3 (by decide) q6793 rfl dX57_start_33 ?_
    refine lv_bipush (v := 48) hx hb dX57_start_36 (by decide) ?_
    refine k_i0 hH (k_runS (As := [.ref (ad 1), .int 48]) (rest := []) X hH.1 hH.2.1 X.2.2.2 (walkX57_number_disk hc (x1 := 48) (f_count := f_count) (f_runs := f_runs) (f_full := f_full) (f_disk := f_disk) (f_later := f_later) (f_open := f_open) (f_laid := f_laid) (f_places := f_places) (f_changed := f_changed) (f_targets := f_targets) (f_bytes := f_bytes) (f_first := f_first) (f_behind := f_behind) (f_numbers := f_numbers) (f_sectors := f_sectors) (f_oldest := f_oldest) (f_newest := f_newest) (f_keptNumbers := f_keptNumbers) (f_keptSectors := f_keptSectors) (f_kept := f_kept) (f_thrown := f_thrown) (f_head := f_head) hw) (va_cwS 2 X.1.2.2.2.2 gX57_88 rfl rfl rfl hX57_number ⟨Nat.le_of_ble_eq_true rfl, Nat.le_of_ble_eq_true rfl⟩) rfl hl.1 rfl (Nat.le_of_ble_eq_true rfl) dX57_start_38 ⟨Nat.le_refl 0, Nat.le_refl 0⟩) (fun r_5 _ H locs hw hH => ?_)
    have hH : kH (dC, dI) cl A s.heap H locs (wX57 ci ad d f_count f_runs f_full f_disk f_later f_open f_laid f_places f_changed f_targets f_bytes f_first f_behind f_numbers f_sectors f_oldest f_newest f_keptNumbers f_keptSectors f_kept f_thrown f_head) := hH
    refine lv_istore (lv' := [(4, .int r_5), (3, .int r_4), (2, .int r_3), (1, .int r_2), (0, .ref (ad 0))]) hx hb dX57_start_41 hl (by decide) rfl (fun ls hl => ?_)
    refine lv_iload_n hx hb dX57_start_43 rfl (lv_at hl 3 rfl) ?_
    refine lv_if_eq (tgt := 61) hx hb dX57_start_44 (by decide) (fun c_6 => ?_) (fun c_6 => ?_)
    · have hw := hw.1 (z_eq (rfl : r_2.toInt = _) (rfl : (0 : Int32).toInt = 0) c_6)
      refine lv_iload_n hx hb dX57_start_61 rfl (lv_at hl 2 rfl) ?_
      refine lv_if_eq (tgt := 69) hx hb dX57_start_62 (by decide) (fun c_7 => ?_) (fun c_7 => ?_)
      · have hw := hw.1 (z_eq (rfl : r_3.toInt = _) (rfl : (0 : Int32).toInt = 0) c_7)
        refine lv_iconst (v := (-1)) hx hb dX57_start_69 (by decide) ?_
        exact atX57_start_70 hc X (-1) f_runs f_later f_laid f_places f_changed f_first f_behind f_numbers f_sectors f_oldest f_newest f_kept hw _ _ ls hH (lv_sub hl [4] rfl)
      · have hw := hw.2 (z_neq (rfl : r_3.toInt = _) (rfl : (0 : Int32).toInt = 0) c_7)
        refine lv_iconst (v := 1) hx hb dX57_start_65 (by decide) ?_
        refine lv_goto (tgt := 70) hx hb dX57_start_66 (by decide) ?_
        exact atX57_start_70 hc X 1 f_runs f_later f_laid f_places f_changed f_first f_behind f_numbers f_sectors f_oldest f_newest f_kept hw _ _ ls hH (lv_sub hl [4] rfl)
    · have hw := hw.2 (z_neq (rfl : r_2.toInt = _) (rfl : (0 : Int32).toInt = 0) c_6)
      refine lv_iload_n hx hb dX57_start_47 rfl (lv_at hl 2 rfl) ?_
      refine lv_if_eq (tgt := 57) hx hb dX57_start_48 (by decide) (fun c_66 => ?_) (fun c_66 => ?_)
      · have hw := hw.1 (z_eq (rfl : r_3.toInt = _) (rfl : (0 : Int32).toInt = 0) c_66)
        refine lv_iconst (v := 0) hx hb dX57_start_57 (by decide) ?_
        refine lv_goto (tgt := 70) hx hb dX57_start_58 (by decide) ?_
        exact atX57_start_70 hc X 0 f_runs f_later f_laid f_places f_changed f_first f_behind f_numbers f_sectors f_oldest f_newest f_kept hw _ _ ls hH (lv_sub hl [4] rfl)
      · have hw := hw.2 (z_neq (rfl : r_3.toInt = _) (rfl : (0 : Int32).toInt = 0) c_66)
        refine lv_iload_n hx hb dX57_start_51 rfl (lv_at hl 1 rfl) ?_
        refine lv_iload hx hb dX57_start_52 (lv_at hl 0 rfl) ?_
        refine lv_icmp_lt (tgt := 61) hx hb dX57_start_54 (by decide) (fun c_67 => ?_) (fun c_67 => ?_)
        · have hw := hw.1 (z_lt (rfl : r_4.toInt = _) (rfl : r_5.toInt = _) c_67)
          refine lv_iload_n hx hb dX57_start_61 rfl (lv_at hl 2 rfl) ?_
          refine lv_if_eq (tgt := 69) hx hb dX57_start_62 (by decide) (fun c_68 => ?_) (fun c_68 => ?_)
          · have hw := hw.1 (z_eq (rfl : r_3.toInt = _) (rfl : (0 : Int32).toInt = 0) c_68)
            refine lv_iconst (v := (-1)) hx hb dX57_start_69 (by decide) ?_
            exact atX57_start_70 hc X (-1) f_runs f_later f_laid f_places f_changed f_first f_behind f_numbers f_sectors f_oldest f_newest f_kept hw _ _ ls hH (lv_sub hl [4] rfl)
          · have hw := hw.2 (z_neq (rfl : r_3.toInt = _) (rfl : (0 : Int32).toInt = 0) c_68)
            refine lv_iconst (v := 1) hx hb dX57_start_65 (by decide) ?_
            refine lv_goto (tgt := 70) hx hb dX57_start_66 (by decide) ?_
            exact atX57_start_70 hc X 1 f_runs f_later f_laid f_places f_changed f_first f_behind f_numbers f_sectors f_oldest f_newest f_kept hw _ _ ls hH (lv_sub hl [4] rfl)
        · have hw := hw.2 (z_nlt (rfl : r_4.toInt = _) (rfl : r_5.toInt = _) c_67)
          refine lv_iconst (v := 0) hx hb dX57_start_57 (by decide) ?_
          refine lv_goto (tgt := 70) hx hb dX57_start_58 (by decide) ?_
          exact atX57_start_70 hc X 0 f_runs f_later f_laid f_places f_changed f_first f_behind f_numbers f_sectors f_oldest f_newest f_kept hw _ _ ls hH (lv_sub hl [4] rfl)
  · have hw := hw.2 (z_neq (rfl : f_runs.toInt = _) (rfl : (0 : Int32).toInt = 0) c_1)
    refine lv_bipush (v := (-3)) hx hb dX57_start_7 (by decide) ?_
    exact k_iret (v := (-3)) X hH (f_runs, f_later, f_laid, f_places, f_changed, f_first, f_behind, f_numbers, f_sectors, f_oldest, f_newest, f_kept) hw rfl rfl dX57_start_9
set_option maxHeartbeats 4000000 in
theorem walkX57_poke {l : Launch} {dC : Nat → ClassId} {dI : Nat → Nat → Nat} {cl : List vw_C} {ci : Nat} (hc : cl[ci]? = some (RX57, TX57, 22)) {ad : Nat → Nat} {d : Nat → ClassId} {sz : Nat} {f_count : Int32} {f_runs : Int32} {f_full : Int32} {f_disk : Nat → Int32} {f_later : Nat → Int32} {f_open : Nat → Int32} {f_laid : Nat → Int32} {f_places : Nat → Int32} {f_changed : Int32} {f_targets : Nat → Int32} {f_bytes : Nat → Int32} {f_first : Int32} {f_behind : Int32} {f_numbers : Nat → Int32} {f_sectors : Nat → Int64} {f_oldest : Int32} {f_newest : Int32} {f_keptNumbers : Nat → Int32} {f_keptSectors : Nat → Int64} {f_kept : Int32} {f_thrown : Int32} {f_head : Nat → Int32} {x1 : Int32} {x2 : Int32} {x3 : Int32} {post : Int → (Int → Int) → (Int → Int) → Prop} (hw : wpX57_poke post f_runs.toInt (zF f_disk) (zF f_later) (zF f_laid) (zF f_places) (zF f_targets) f_first.toInt f_behind.toInt x1.toInt x2.toInt x3.toInt) :
    Met l yX57_poke (ws_ yX57_poke cX57_poke 5 (some .int)) ({ frames := 1, cells := 0, slots := 0, locals := 23 } : Room) (kPc (dC, dI) cl (tX57 d) [.ref (ad 0), .int x1, .int x2, .int x3] sz (wX57 ci ad d f_count f_runs f_full f_disk f_later f_open f_laid f_places f_changed f_targets f_bytes f_first f_behind f_numbers f_sectors f_oldest f_newest f_keptNumbers f_keptSectors f_kept f_thrown f_head)) (va_Qi (fun (r : Int32) (u : (Nat → Int32) × (Nat → Int32)) => post r.toInt (zF (u.1)) (zF (u.2))) (kB (dC, dI) cl (tX57 d) (va_A (wX57 ci ad d f_count f_runs f_full f_disk f_later f_open f_laid f_places f_changed f_targets f_bytes f_first f_behind f_numbers f_sectors f_oldest f_newest f_keptNumbers f_keptSectors f_kept f_thrown f_head) sz) (fun u : (Nat → Int32) × (Nat → Int32) => (wX57 ci ad d f_count f_runs f_full (u.1) (u.2) f_open f_laid f_places f_changed f_targets f_bytes f_first f_behind f_numbers f_sectors f_oldest f_newest f_keptNumbers f_keptSectors f_kept f_thrown f_head))) (va_A (wX57 ci ad d f_count f_runs f_full f_disk f_later f_open f_laid f_places f_changed f_targets f_bytes f_first f_behind f_numbers f_sectors f_oldest f_newest f_keptNumbers f_keptSectors f_kept f_thrown f_head) sz)) 0 0 (va_A (wX57 ci ad d f_count f_runs f_full f_disk f_later f_open f_laid f_places f_changed f_targets f_bytes f_first f_behind f_numbers f_sectors f_oldest f_newest f_keptNumbers f_keptSectors f_kept f_thrown f_head) sz) := by
  refine k_enter (by decide) (Nat.le_of_ble_eq_true rfl) ?_
  intro p e s m below meth c ls X hsz hH hl
  subst hsz
  generalize va_A (wX57 ci ad d f_count f_runs f_full f_disk f_later f_open f_laid f_places f_changed f_targets f_bytes f_first f_behind f_numbers f_sectors f_oldest f_newest f_keptNumbers f_keptSectors f_kept f_thrown f_head) s.heap.size = A at hH ⊢
  have hx := X.1.1
  have hb := X.1.2.1
  have hl : lv_has ls 5 [(0, .ref (ad 0)), (1, .int x1), (2, .int x2), (3, .int x3)] := hl
  unfold wpX57_poke at hw
  refine lv_aload_n hx hb dX57_poke_0 rfl (lv_at hl 0 rfl) ?_
  refine k_get X hH in_X57 0 rfl hc 1 (by decide) q6791 rfl dX57_poke_1 ?_
  refine lv_if_ne (tgt := 10) hx hb dX57_poke_4 (by decide) (fun c_1 => ?_) (fun c_1 => ?_)
  · have hw := hw.2 (z_ne (rfl : f_runs.toInt = _) (rfl : (0 : Int32).toInt = 0) c_1)
    refine lv_aload_n hx hb dX57_poke_10 rfl (lv_at hl 0 rfl) ?_
    refine lv_iload_n hx hb dX57_poke_11 rfl (lv_at hl 1 rfl) ?_
    refine k_i0 hH (k_runV (As := [.int x1]) (rest := []) X hH.1 hH.2.1 X.2.2.2 (walkX57_isPage hc (x1 := x1) (f_count := f_count) (f_runs := f_runs) (f_full := f_full) (f_disk := f_disk) (f_later := f_later) (f_open := f_open) (f_laid := f_laid) (f_places := f_places) (f_changed := f_changed) (f_targets := f_targets) (f_bytes := f_bytes) (f_first := f_first) (f_behind := f_behind) (f_numbers := f_numbers) (f_sectors := f_sectors) (f_oldest := f_oldest) (f_newest := f_newest) (f_keptNumbers := f_keptNumbers) (f_keptSectors := f_keptSectors) (f_kept := f_kept) (f_thrown := f_thrown) (f_head := f_head) hw) (cwV 1 X.1.2.2.2.2 gX57_128 rfl rfl rfl hX57_isPage ⟨Nat.le_of_ble_eq_true rfl, Nat.le_of_ble_eq_true rfl⟩) hc (q0 := 0) rfl rfl hl.1 rfl (Nat.le_of_ble_eq_true rfl) dX57_poke_12 ⟨Nat.le_refl 0, Nat.le_refl 0⟩) (fun r_2 _ H locs hw hH => ?_)
    have hH : kH (dC, dI) cl A s.heap H locs (wX57 ci ad d f_count f_runs f_full f_disk f_later f_open f_laid f_places f_changed f_targets f_bytes f_first f_behind f_numbers f_sectors f_oldest f_newest f_keptNumbers f_keptSectors f_kept f_thrown f_head) := hH
    refine lv_if_ne (tgt := 20) hx hb dX57_poke_15 (by decide) (fun c_3 => ?_) (fun c_3 => ?_)
    · have hw := hw.2 (z_ne (rfl : r_2.toInt = _) (rfl : (0 : Int32).toInt = 0) c_3)
      refine lv_iload_n hx hb dX57_poke_20 rfl (lv_at hl 2 rfl) ?_
      refine lv_if_lt (tgt := 42) hx hb dX57_poke_21 (by decide) (fun c_4 => ?_) (fun c_4 => ?_)
      · have hw := hw.1 (z_lt (rfl : x2.toInt = _) (rfl : (0 : Int32).toInt = 0) c_4)
        refine lv_bipush (v := (-2)) hx hb dX57_poke_42 (by decide) ?_
        exact k_iret (v := (-2)) X hH (f_disk, f_later) hw rfl rfl dX57_poke_44
      · have hw := hw.2 (z_nlt (rfl : x2.toInt = _) (rfl : (0 : Int32).toInt = 0) c_4)
        refine lv_iload_n hx hb dX57_poke_24 rfl (lv_at hl 2 rfl) ?_
        refine lv_bipush (v := 32) hx hb dX57_poke_25 (by decide) ?_
        refine lv_icmp_ge (tgt := 42) hx hb dX57_poke_27 (by decide) (fun c_5 => ?_) (fun c_5 => ?_)
        · have hw := hw.1 (z_le (rfl : (32 : Int32).toInt = 32) (rfl : x2.toInt = _) c_5)
          refine lv_bipush (v := (-2)) hx hb dX57_poke_42 (by decide) ?_
          exact k_iret (v := (-2)) X hH (f_disk, f_later) hw rfl rfl dX57_poke_44
        · have hw := hw.2 (z_nle (rfl : (32 : Int32).toInt = 32) (rfl : x2.toInt = _) c_5)
          refine lv_iload_n hx hb dX57_poke_30 rfl (lv_at hl 3 rfl) ?_
          refine lv_iconst (v := 1) hx hb dX57_poke_31 (by decide) ?_
          refine lv_icmp_lt (tgt := 42) hx hb dX57_poke_32 (by decide) (fun c_6 => ?_) (fun c_6 => ?_)
          · have hw := hw.1 (z_lt (rfl : x3.toInt = _) (rfl : (1 : Int32).toInt = 1) c_6)
            refine lv_bipush (v := (-2)) hx hb dX57_poke_42 (by decide) ?_
            exact k_iret (v := (-2)) X hH (f_disk, f_later) hw rfl rfl dX57_poke_44
          · have hw := hw.2 (z_nlt (rfl : x3.toInt = _) (rfl : (1 : Int32).toInt = 1) c_6)
            refine lv_iload_n hx hb dX57_poke_35 rfl (lv_at hl 3 rfl) ?_
            refine lv_sipush (v := 255) hx hb dX57_poke_36 (by decide) ?_
            refine lv_icmp_le (tgt := 45) hx hb dX57_poke_39 (by decide) (fun c_7 => ?_) (fun c_7 => ?_)
            · have hw := hw.1 (z_le (rfl : x3.toInt = _) (rfl : (255 : Int32).toInt = 255) c_7)
              refine lv_aload_n hx hb dX57_poke_45 rfl (lv_at hl 0 rfl) ?_
              refine k_get X hH in_X57 0 rfl hc 7 (by decide) q6797 rfl dX57_poke_46 ?_
              refine lv_iload_n hx hb dX57_poke_49 rfl (lv_at hl 1 rfl) ?_
              have hq_8 := hw.1
              have hw := hw.2
              refine k_iald X hH 5 4 rfl rfl (z_in (rfl : x1.toInt = _) hq_8) dX57_poke_50 ?_
              have e_9 := z_ld (f := f_places) (rfl : x1.toInt = _) hq_8.1
              refine lv_topi (fun x4_10 ex4_10 => ?_)
              have hw := hw x4_10.toInt (by rw [ex4_10]; exact e_9)
              refine lv_istore (lv' := [(4, .int x4_10), (0, .ref (ad 0)), (1, .int x1), (2, .int x2), (3, .int x3)]) hx hb dX57_poke_51 hl (by decide) rfl (fun ls hl => ?_)
              refine lv_aload_n hx hb dX57_poke_53 rfl (lv_at hl 1 rfl) ?_
              refine k_get X hH in_X57 0 rfl hc 6 (by decide) q6796 rfl dX57_poke_54 ?_
              refine lv_iload hx hb dX57_poke_57 (lv_at hl 0 rfl) ?_
              have hq_11 := hw.1
              have hw := hw.2
              refine k_zald X hH 4 3 rfl rfl (z_in (rfl : x4_10.toInt = _) hq_11) dX57_poke_59 ?_
              have e_12 := z_ld (f := f_laid) (rfl : x4_10.toInt = _) hq_11.1
              refine lv_if_ne (tgt := 72) hx hb dX57_poke_60 (by decide) (fun c_13 => ?_) (fun c_13 => ?_)
              · have hw := hw.2 (z_ne e_12 (rfl : (0 : Int32).toInt = 0) c_13)
                refine lv_bipush (v := (-3)) hx hb dX57_poke_72 (by decide) ?_
                exact k_iret (v := (-3)) X hH (f_disk, f_later) hw rfl rfl dX57_poke_74
              · have hw := hw.1 (z_eq e_12 (rfl : (0 : Int32).toInt = 0) c_13)
                refine lv_aload_n hx hb dX57_poke_63 rfl (lv_at hl 1 rfl) ?_
                refine lv_iload hx hb dX57_poke_64 (lv_at hl 0 rfl) ?_
                refine k_i0 hH (k_runV (As := [.int x4_10]) (rest := []) X hH.1 hH.2.1 X.2.2.2 (walkX57_isWaiting hc (x1 := x4_10) (f_count := f_count) (f_runs := f_runs) (f_full := f_full) (f_disk := f_disk) (f_later := f_later) (f_open := f_open) (f_laid := f_laid) (f_places := f_places) (f_changed := f_changed) (f_targets := f_targets) (f_bytes := f_bytes) (f_first := f_first) (f_behind := f_behind) (f_numbers := f_numbers) (f_sectors := f_sectors) (f_oldest := f_oldest) (f_newest := f_newest) (f_keptNumbers := f_keptNumbers) (f_keptSectors := f_keptSectors) (f_kept := f_kept) (f_thrown := f_thrown) (f_head := f_head) hw) (cwV 1 X.1.2.2.2.2 gX57_105 rfl rfl rfl hX57_isWaiting ⟨Nat.le_of_ble_eq_true rfl, Nat.le_of_ble_eq_true rfl⟩) hc (q0 := 0) rfl rfl hl.1 rfl (Nat.le_of_ble_eq_true rfl) dX57_poke_66 ⟨Nat.le_refl 0, Nat.le_refl 0⟩) (fun r_14 _ H locs hw hH => ?_)
                have hH : kH (dC, dI) cl A s.heap H locs (wX57 ci ad d f_count f_runs f_full f_disk f_later f_open f_laid f_places f_changed f_targets f_bytes f_first f_behind f_numbers f_sectors f_oldest f_newest f_keptNumbers f_keptSectors f_kept f_thrown f_head) := hH
                refine lv_if_eq (tgt := 75) hx hb dX57_poke_69 (by decide) (fun c_15 => ?_) (fun c_15 => ?_)
                · have hw := hw.1 (z_eq (rfl : r_14.toInt = _) (rfl : (0 : Int32).toInt = 0) c_15)
                  refine lv_aload_n hx hb dX57_poke_75 rfl (lv_at hl 1 rfl) ?_
                  refine k_get X hH in_X57 0 rfl hc 3 (by decide) q6793 rfl dX57_poke_76 ?_
                  refine lv_bipush (v := 32) hx hb dX57_poke_79 (by decide) ?_
                  refine lv_iload hx hb dX57_poke_81 (lv_at hl 0 rfl) ?_
                  refine lv_imul hx hb dX57_poke_83 ?_
                  have e_16 := z_mul (z_m (rfl : (32 : Int32).toInt = 32)) (z_m (rfl : x4_10.toInt = _))
                  refine lv_iload_n hx hb dX57_poke_84 rfl (lv_at hl 3 rfl) ?_
                  refine lv_iadd hx hb dX57_poke_85 ?_
                  have e_17 := z_add e_16 (z_m (rfl : x2.toInt = _))
                  refine lv_dup2_11 hx hb dX57_poke_86 rfl rfl ?_
                  have hq_18 := hw.1
                  have hw := hw.2
                  have e_19 := z_xi e_17 hq_18 (by decide)
                  refine k_iald X hH 1 0 rfl rfl (z_in e_19 hq_18) dX57_poke_87 ?_
                  have e_20 := z_ld (f := f_disk) e_19 hq_18.1
                  refine lv_iload_n hx hb dX57_poke_88 rfl (lv_at hl 4 rfl) ?_
                  refine lv_ixor hx hb dX57_poke_89 ?_
                  have e_21 := z_xor (z_m e_20) (z_m (rfl : x3.toInt = _))
                  refine lv_topi (fun v_22 ev_22 => ?_)
                  have hw := hw v_22.toInt (by rw [ev_22]; exact e_21)
                  have e_24 := z_xi e_17 hq_18 (by decide)
                  obtain ⟨f_disk_23, ef_disk_23⟩ : ∃ y : Nat → Int32, y = upd f_disk ((32 * x4_10) + x2).toNatClampNeg v_22 := ⟨_, rfl⟩
                  refine k_iast X hH 1 0 rfl rfl (z_in e_24 hq_18) dX57_poke_90 ef_disk_23 (ws1 := (wX57 ci ad d f_count f_runs f_full f_disk_23 f_later f_open f_laid f_places f_changed f_targets f_bytes f_first f_behind f_numbers f_sectors f_oldest f_newest f_keptNumbers f_keptSectors f_kept f_thrown f_head)) rfl (fun H locs hH => ?_)
                  have hw := hw (zF f_disk_23) (by rw [ef_disk_23]; exact z_st (f := f_disk) e_24 hq_18.1 (rfl : v_22.toInt = _))
                  refine lv_aload_n hx hb dX57_poke_91 rfl (lv_at hl 1 rfl) ?_
                  refine k_get X hH in_X57 0 rfl hc 4 (by decide) q6794 rfl dX57_poke_92 ?_
                  refine lv_bipush (v := 32) hx hb dX57_poke_95 (by decide) ?_
                  refine lv_iload hx hb dX57_poke_97 (lv_at hl 0 rfl) ?_
                  refine lv_imul hx hb dX57_poke_99 ?_
                  have e_25 := z_mul (z_m (rfl : (32 : Int32).toInt = 32)) (z_m (rfl : x4_10.toInt = _))
                  refine lv_iload_n hx hb dX57_poke_100 rfl (lv_at hl 3 rfl) ?_
                  refine lv_iadd hx hb dX57_poke_101 ?_
                  have e_26 := z_add e_25 (z_m (rfl : x2.toInt = _))
                  refine lv_aload_n hx hb dX57_poke_102 rfl (lv_at hl 1 rfl) ?_
                  refine k_get X hH in_X57 0 rfl hc 3 (by decide) q6793 rfl dX57_poke_103 ?_
                  refine lv_bipush (v := 32) hx hb dX57_poke_106 (by decide) ?_
                  refine lv_iload hx hb dX57_poke_108 (lv_at hl 0 rfl) ?_
                  refine lv_imul hx hb dX57_poke_110 ?_
                  have e_27 := z_mul (z_m (rfl : (32 : Int32).toInt = 32)) (z_m (rfl : x4_10.toInt = _))
                  refine lv_iload_n hx hb dX57_poke_111 rfl (lv_at hl 3 rfl) ?_
                  refine lv_iadd hx hb dX57_poke_112 ?_
                  have e_28 := z_add e_27 (z_m (rfl : x2.toInt = _))
                  have e_29 := z_xi e_28 hq_18 (by decide)
                  refine k_iald X hH 1 0 rfl rfl (z_in e_29 hq_18) dX57_poke_113 ?_
                  have e_30 := z_ld (f := f_disk_23) e_29 hq_18.1
                  refine lv_topi (fun v_31 ev_31 => ?_)
                  have hw := hw v_31.toInt (by rw [ev_31]; exact e_30)
                  have e_33 := z_xi e_26 hq_18 (by decide)
                  obtain ⟨f_later_32, ef_later_32⟩ : ∃ y : Nat → Int32, y = upd f_later ((32 * x4_10) + x2).toNatClampNeg v_31 := ⟨_, rfl⟩
                  refine k_iast X hH 2 1 rfl rfl (z_in e_33 hq_18) dX57_poke_114 ef_later_32 (ws1 := (wX57 ci ad d f_count f_runs f_full f_disk_23 f_later_32 f_open f_laid f_places f_changed f_targets f_bytes f_first f_behind f_numbers f_sectors f_oldest f_newest f_keptNumbers f_keptSectors f_kept f_thrown f_head)) rfl (fun H locs hH => ?_)
                  have hw := hw (zF f_later_32) (by rw [ef_later_32]; exact z_st (f := f_later) e_33 hq_18.1 (rfl : v_31.toInt = _))
                  refine lv_aload_n hx hb dX57_poke_115 rfl (lv_at hl 1 rfl) ?_
                  refine k_get X hH in_X57 0 rfl hc 3 (by decide) q6793 rfl dX57_poke_116 ?_
                  refine lv_bipush (v := 32) hx hb dX57_poke_119 (by decide) ?_
                  refine lv_iload hx hb dX57_poke_121 (lv_at hl 0 rfl) ?_
                  refine lv_imul hx hb dX57_poke_123 ?_
                  have e_34 := z_mul (z_m (rfl : (32 : Int32).toInt = 32)) (z_m (rfl : x4_10.toInt = _))
                  refine lv_iload_n hx hb dX57_poke_124 rfl (lv_at hl 3 rfl) ?_
                  refine lv_iadd hx hb dX57_poke_125 ?_
                  have e_35 := z_add e_34 (z_m (rfl : x2.toInt = _))
                  have e_36 := z_xi e_35 hq_18 (by decide)
                  refine k_iald X hH 1 0 rfl rfl (z_in e_36 hq_18) dX57_poke_126 ?_
                  have e_37 := z_ld (f := f_disk_23) e_36 hq_18.1
                  exact k_iret (v := f_disk_23 ((32 * x4_10) + x2).toNatClampNeg) X hH (f_disk_23, f_later_32) (by rw [show (f_disk_23 ((32 * x4_10) + x2).toNatClampNeg : Int32).toInt = _ from e_37]; exact hw) rfl rfl dX57_poke_127
                · have hw := hw.2 (z_neq (rfl : r_14.toInt = _) (rfl : (0 : Int32).toInt = 0) c_15)
                  refine lv_bipush (v := (-3)) hx hb dX57_poke_72 (by decide) ?_
                  exact k_iret (v := (-3)) X hH (f_disk, f_later) hw rfl rfl dX57_poke_74
            · have hw := hw.2 (z_nle (rfl : x3.toInt = _) (rfl : (255 : Int32).toInt = 255) c_7)
              refine lv_bipush (v := (-2)) hx hb dX57_poke_42 (by decide) ?_
              exact k_iret (v := (-2)) X hH (f_disk, f_later) hw rfl rfl dX57_poke_44
    · have hw := hw.1 (z_eq (rfl : r_2.toInt = _) (rfl : (0 : Int32).toInt = 0) c_3)
      refine lv_iconst (v := (-1)) hx hb dX57_poke_18 (by decide) ?_
      exact k_iret (v := (-1)) X hH (f_disk, f_later) hw rfl rfl dX57_poke_19
  · have hw := hw.1 (z_eq (rfl : f_runs.toInt = _) (rfl : (0 : Int32).toInt = 0) c_1)
    refine lv_bipush (v := (-3)) hx hb dX57_poke_7 (by decide) ?_
    exact k_iret (v := (-3)) X hH (f_disk, f_later) hw rfl rfl dX57_poke_9
set_option maxHeartbeats 4000000 in
theorem atX57_sum_later_4 {p : Program} {l : Launch} {e : Env} {s : State} {m : MethodId} {args : Array Value} {below : List Frame} {meth : Method} {c : Code} {dC : Nat → ClassId} {dI : Nat → Nat → Nat} {cl : List vw_C} {ci : Nat} (hc : cl[ci]? = some (RX57, TX57, 22)) {ad : Nat → Nat} {d : Nat → ClassId} {A : Nat → Prop} {post : Int → Prop} {f_count : Int32} {f_runs : Int32} {f_full : Int32} {f_disk : Nat → Int32} {f_later : Nat → Int32} {f_open : Nat → Int32} {f_laid : Nat → Int32} {f_places : Nat → Int32} {f_changed : Int32} {f_targets : Nat → Int32} {f_bytes : Nat → Int32} {f_first : Int32} {f_behind : Int32} {f_numbers : Nat → Int32} {f_sectors : Nat → Int64} {f_oldest : Int32} {f_newest : Int32} {f_keptNumbers : Nat → Int32} {f_keptSectors : Nat → Int64} {f_kept : Int32} {f_thrown : Int32} {f_head : Nat → Int32} (X : kX p s m args meth c cX57_sum 5 RX57 (some .int) (dC, dI) cl (tX57 d)) {K43 : Int → Prop} {x1 : Int32}  (hk43 : ∀ (x2 : Int32), K43 x2.toInt → ∀ (H : Heap) (locs : List Loc) (ls : Array Slot), kH (dC, dI) cl A s.heap H locs (wX57 ci ad d f_count f_runs f_full f_disk f_later f_open f_laid f_places f_changed f_targets f_bytes f_first f_behind f_numbers f_sectors f_oldest f_newest f_keptNumbers f_keptSectors f_kept f_thrown f_head) → lv_has ls 5 [(2, .int x2)] → W p l e ({ frames := 0, cells := 0, slots := 0, locals := 0 } : Room) s m args below meth c H locs 0 0 (MQ below (va_Qi (fun (r : Int32) (_ : Unit) => post r.toInt) (kB (dC, dI) cl (tX57 d) A (fun _ : Unit => (wX57 ci ad d f_count f_runs f_full f_disk f_later f_open f_laid f_places f_changed f_targets f_bytes f_first f_behind f_numbers f_sectors f_oldest f_newest f_keptNumbers f_keptSectors f_kept f_thrown f_head))) A) args s 0 0 A) (F0 m 43 ls [])) :
    ∀ (nn : Nat) (x2 : Int32) (x3 : Int32), wX57_sum_later_4 K43 x1.toInt (zF f_later) nn x2.toInt x3.toInt → ∀ (H : Heap) (locs : List Loc) (ls : Array Slot), kH (dC, dI) cl A s.heap H locs (wX57 ci ad d f_count f_runs f_full f_disk f_later f_open f_laid f_places f_changed f_targets f_bytes f_first f_behind f_numbers f_sectors f_oldest f_newest f_keptNumbers f_keptSectors f_kept f_thrown f_head) → lv_has ls 5 [(0, .ref (ad 2)), (1, .int x1), (2, .int x2), (3, .int x3)] → W p l e ({ frames := 0, cells := 0, slots := 0, locals := 0 } : Room) s m args below meth c H locs 0 0 (MQ below (va_Qi (fun (r : Int32) (_ : Unit) => post r.toInt) (kB (dC, dI) cl (tX57 d) A (fun _ : Unit => (wX57 ci ad d f_count f_runs f_full f_disk f_later f_open f_laid f_places f_changed f_targets f_bytes f_first f_behind f_numbers f_sectors f_oldest f_newest f_keptNumbers f_keptSectors f_kept f_thrown f_head))) A) args s 0 0 A) (F0 m 4 ls []) := by
  have hx := X.1.1
  have hb := X.1.2.1
  intro nn
  induction nn with
  | zero =>
    intro x2 x3 hw
    exact False.elim hw
  | succ n ih =>
    intro x2 x3 hw H locs ls hH hl
    rw [wX57_sum_later_4] at hw
    refine lv_iload_n hx hb dX57_sum_4 rfl (lv_at hl 3 rfl) ?_
    refine lv_bipush (v := 32) hx hb dX57_sum_5 (by decide) ?_
    refine lv_icmp_ge (tgt := 43) hx hb dX57_sum_7 (by decide) (fun c_1 => ?_) (fun c_1 => ?_)
    · have hw := hw.1 (z_le (rfl : (32 : Int32).toInt = 32) (rfl : x3.toInt = _) c_1)
      exact hk43 x2 hw _ _ ls hH (lv_sub hl [2] rfl)
    · have hw := hw.2 (z_nle (rfl : (32 : Int32).toInt = 32) (rfl : x3.toInt = _) c_1)
      refine lv_iload_n hx hb dX57_sum_10 rfl (lv_at hl 2 rfl) ?_
      refine lv_aload_n hx hb dX57_sum_11 rfl (lv_at hl 0 rfl) ?_
      refine lv_bipush (v := 32) hx hb dX57_sum_12 (by decide) ?_
      refine lv_iload_n hx hb dX57_sum_14 rfl (lv_at hl 1 rfl) ?_
      refine lv_imul hx hb dX57_sum_15 ?_
      have e_2 := z_mulw (rfl : (32 : Int32).toInt = 32) (rfl : x1.toInt = _)
      refine lv_iload_n hx hb dX57_sum_16 rfl (lv_at hl 3 rfl) ?_
      refine lv_iadd hx hb dX57_sum_17 ?_
      have e_3 := z_addw e_2 (rfl : x3.toInt = _)
      have hq_4 := hw.1
      have hw := hw.2
      refine k_iald X hH 2 1 rfl rfl (z_in e_3 hq_4) dX57_sum_18 ?_
      have e_5 := z_ld (f := f_later) e_3 hq_4.1
      refine lv_ixor hx hb dX57_sum_19 ?_
      have e_6 := z_xor (z_m (rfl : x2.toInt = _)) (z_m e_5)
      refine lv_topi (fun x4_7 ex4_7 => ?_)
      have hw := hw x4_7.toInt (by rw [ex4_7]; exact e_6)
      refine lv_istore (lv' := [(4, .int x4_7), (0, .ref (ad 2)), (1, .int x1), (2, .int x2), (3, .int x3)]) hx hb dX57_sum_20 hl (by decide) rfl (fun ls hl => ?_)
      refine lv_iload hx hb dX57_sum_22 (lv_at hl 0 rfl) ?_
      refine lv_bipush (v := 11) hx hb dX57_sum_24 (by decide) ?_
      refine lv_ishl hx hb dX57_sum_26 ?_
      have e_8 := z_shlw (rfl : x4_7.toInt = _) (k := 11) (m := 11) (c := 2048) (by decide)
      refine lv_iload hx hb dX57_sum_27 (lv_at hl 0 rfl) ?_
      refine lv_bipush (v := 21) hx hb dX57_sum_29 (by decide) ?_
      refine lv_iushr (v := (x4_7.toUInt32 >>> ((21 : Int32).toUInt32 &&& Int32.toUInt32 31)).toInt32) hx hb dX57_sum_31 rfl ?_
      have e_9 := z_ushr (rfl : x4_7.toInt = _) (k := 21) (m := 21) (c := 2097152) (by decide) (by decide)
      refine lv_ior hx hb dX57_sum_32 ?_
      have e_10 := z_or (z_m e_8) (z_m e_9)
      refine lv_ldc (v := (-2048144777)) hx hb X.1.2.2.2.1 (X.1.2.2.2.2 _ q7857) dX57_sum_33 ?_
      refine lv_imul hx hb dX57_sum_35 ?_
      have e_11 := z_mulw e_10 (rfl : ((-2048144777) : Int32).toInt = (-2048144777))
      refine lv_topi (fun x2_12 ex2_12 => ?_)
      have hw := hw x2_12.toInt (by rw [ex2_12]; exact e_11)
      refine lv_istore_n (lv' := [(2, .int x2_12), (4, .int x4_7), (0, .ref (ad 2)), (1, .int x1), (3, .int x3)]) hx hb dX57_sum_36 rfl hl (by decide) rfl (fun ls hl => ?_)
      obtain ⟨x3_13, ex3_13⟩ : ∃ y : Int32, y = x3 + 1 := ⟨_, rfl⟩
      have hw := hw x3_13.toInt (by rw [ex3_13]; exact (z_addw (rfl : x3.toInt = _) (rfl : (1 : Int32).toInt = 1)))
      refine lv_iinc (v := x3_13) (lv' := [(3, .int x3_13), (2, .int x2_12), (4, .int x4_7), (0, .ref (ad 2)), (1, .int x1)]) hx hb dX57_sum_37 hl (k := 4) rfl (by rw [ex3_13]; rfl) (by decide) rfl (fun ls hl => ?_)
      refine lv_goto (tgt := 4) hx hb dX57_sum_40 (by decide) ?_
      exact ih x2_12 x3_13 hw _ _ ls hH (lv_sub hl [3, 4, 1, 0] rfl)
set_option maxHeartbeats 4000000 in
theorem walkX57_sum_later {l : Launch} {dC : Nat → ClassId} {dI : Nat → Nat → Nat} {cl : List vw_C} {ci : Nat} (hc : cl[ci]? = some (RX57, TX57, 22)) {ad : Nat → Nat} {d : Nat → ClassId} {sz : Nat} {f_count : Int32} {f_runs : Int32} {f_full : Int32} {f_disk : Nat → Int32} {f_later : Nat → Int32} {f_open : Nat → Int32} {f_laid : Nat → Int32} {f_places : Nat → Int32} {f_changed : Int32} {f_targets : Nat → Int32} {f_bytes : Nat → Int32} {f_first : Int32} {f_behind : Int32} {f_numbers : Nat → Int32} {f_sectors : Nat → Int64} {f_oldest : Int32} {f_newest : Int32} {f_keptNumbers : Nat → Int32} {f_keptSectors : Nat → Int64} {f_kept : Int32} {f_thrown : Int32} {f_head : Nat → Int32} {x1 : Int32} {post : Int → Prop} (hw : wpX57_sum_later post (zF f_later) x1.toInt) :
    Met l yX57_sum (ws_ yX57_sum cX57_sum 5 (some .int)) ({ frames := 0, cells := 0, slots := 0, locals := 0 } : Room) (kPc (dC, dI) cl (tX57 d) [.ref (ad 2), .int x1] sz (wX57 ci ad d f_count f_runs f_full f_disk f_later f_open f_laid f_places f_changed f_targets f_bytes f_first f_behind f_numbers f_sectors f_oldest f_newest f_keptNumbers f_keptSectors f_kept f_thrown f_head)) (va_Qi (fun (r : Int32) (_ : Unit) => post r.toInt) (kB (dC, dI) cl (tX57 d) (va_A (wX57 ci ad d f_count f_runs f_full f_disk f_later f_open f_laid f_places f_changed f_targets f_bytes f_first f_behind f_numbers f_sectors f_oldest f_newest f_keptNumbers f_keptSectors f_kept f_thrown f_head) sz) (fun _ : Unit => (wX57 ci ad d f_count f_runs f_full f_disk f_later f_open f_laid f_places f_changed f_targets f_bytes f_first f_behind f_numbers f_sectors f_oldest f_newest f_keptNumbers f_keptSectors f_kept f_thrown f_head))) (va_A (wX57 ci ad d f_count f_runs f_full f_disk f_later f_open f_laid f_places f_changed f_targets f_bytes f_first f_behind f_numbers f_sectors f_oldest f_newest f_keptNumbers f_keptSectors f_kept f_thrown f_head) sz)) 0 0 (va_A (wX57 ci ad d f_count f_runs f_full f_disk f_later f_open f_laid f_places f_changed f_targets f_bytes f_first f_behind f_numbers f_sectors f_oldest f_newest f_keptNumbers f_keptSectors f_kept f_thrown f_head) sz) := by
  refine k_enter (by decide) (Nat.le_of_ble_eq_true rfl) ?_
  intro p e s m below meth c ls X hsz hH hl
  subst hsz
  generalize va_A (wX57 ci ad d f_count f_runs f_full f_disk f_later f_open f_laid f_places f_changed f_targets f_bytes f_first f_behind f_numbers f_sectors f_oldest f_newest f_keptNumbers f_keptSectors f_kept f_thrown f_head) s.heap.size = A at hH ⊢
  have hx := X.1.1
  have hb := X.1.2.1
  have hl : lv_has ls 5 [(0, .ref (ad 2)), (1, .int x1)] := hl
  unfold wpX57_sum_later at hw
  refine lv_iconst (v := 0) hx hb dX57_sum_0 (by decide) ?_
  refine lv_istore_n (lv' := [(2, .int 0), (0, .ref (ad 2)), (1, .int x1)]) hx hb dX57_sum_1 rfl hl (by decide) rfl (fun ls hl => ?_)
  refine lv_iconst (v := 4) hx hb dX57_sum_2 (by decide) ?_
  refine lv_istore_n (lv' := [(3, .int 4), (2, .int 0), (0, .ref (ad 2)), (1, .int x1)]) hx hb dX57_sum_3 rfl hl (by decide) rfl (fun ls hl => ?_)
  obtain ⟨fu, hw⟩ := hw
  refine atX57_sum_later_4 hc X ?_ fu 0 4 hw _ _ ls hH (lv_sub hl [2, 3, 1, 0] rfl)
  · intro x2_14 hw H locs ls hH hl
    refine lv_iload_n hx hb dX57_sum_43 rfl (lv_at hl 0 rfl) ?_
    exact k_iret (v := x2_14) X hH () hw rfl rfl dX57_sum_44
set_option maxHeartbeats 4000000 in
theorem walkX57_isRight_later {l : Launch} {dC : Nat → ClassId} {dI : Nat → Nat → Nat} {cl : List vw_C} {ci : Nat} (hc : cl[ci]? = some (RX57, TX57, 22)) {ad : Nat → Nat} {d : Nat → ClassId} {sz : Nat} {f_count : Int32} {f_runs : Int32} {f_full : Int32} {f_disk : Nat → Int32} {f_later : Nat → Int32} {f_open : Nat → Int32} {f_laid : Nat → Int32} {f_places : Nat → Int32} {f_changed : Int32} {f_targets : Nat → Int32} {f_bytes : Nat → Int32} {f_first : Int32} {f_behind : Int32} {f_numbers : Nat → Int32} {f_sectors : Nat → Int64} {f_oldest : Int32} {f_newest : Int32} {f_keptNumbers : Nat → Int32} {f_keptSectors : Nat → Int64} {f_kept : Int32} {f_thrown : Int32} {f_head : Nat → Int32} {x1 : Int32} {post : Int → Prop} (hw : wpX57_isRight_later post (zF f_later) x1.toInt) :
    Met l yX57_isRight (ws_ yX57_isRight cX57_isRight 2 (some .boolean)) ({ frames := 1, cells := 0, slots := 0, locals := 24 } : Room) (kPc (dC, dI) cl (tX57 d) [.ref (ad 2), .int x1] sz (wX57 ci ad d f_count f_runs f_full f_disk f_later f_open f_laid f_places f_changed f_targets f_bytes f_first f_behind f_numbers f_sectors f_oldest f_newest f_keptNumbers f_keptSectors f_kept f_thrown f_head)) (va_Qi (fun (r : Int32) (_ : Unit) => post r.toInt) (kB (dC, dI) cl (tX57 d) (va_A (wX57 ci ad d f_count f_runs f_full f_disk f_later f_open f_laid f_places f_changed f_targets f_bytes f_first f_behind f_numbers f_sectors f_oldest f_newest f_keptNumbers f_keptSectors f_kept f_thrown f_head) sz) (fun _ : Unit => (wX57 ci ad d f_count f_runs f_full f_disk f_later f_open f_laid f_places f_changed f_targets f_bytes f_first f_behind f_numbers f_sectors f_oldest f_newest f_keptNumbers f_keptSectors f_kept f_thrown f_head))) (va_A (wX57 ci ad d f_count f_runs f_full f_disk f_later f_open f_laid f_places f_changed f_targets f_bytes f_first f_behind f_numbers f_sectors f_oldest f_newest f_keptNumbers f_keptSectors f_kept f_thrown f_head) sz)) 0 0 (va_A (wX57 ci ad d f_count f_runs f_full f_disk f_later f_open f_laid f_places f_changed f_targets f_bytes f_first f_behind f_numbers f_sectors f_oldest f_newest f_keptNumbers f_keptSectors f_kept f_thrown f_head) sz) := by
  refine k_enter (by decide) (Nat.le_of_ble_eq_true rfl) ?_
  intro p e s m below meth c ls X hsz hH hl
  subst hsz
  generalize va_A (wX57 ci ad d f_count f_runs f_full f_disk f_later f_open f_laid f_places f_changed f_targets f_bytes f_first f_behind f_numbers f_sectors f_oldest f_newest f_keptNumbers f_keptSectors f_kept f_thrown f_head) s.heap.size = A at hH ⊢
  have hx := X.1.1
  have hb := X.1.2.1
  have hl : lv_has ls 2 [(0, .ref (ad 2)), (1, .int x1)] := hl
  unfold wpX57_isRight_later at hw
  refine lv_aload_n hx hb dX57_isRight_0 rfl (lv_at hl 0 rfl) ?_
  refine lv_bipush (v := 32) hx hb dX57_isRight_1 (by decide) ?_
  refine lv_iload_n hx hb dX57_isRight_3 rfl (lv_at hl 1 rfl) ?_
  refine lv_imul hx hb dX57_isRight_4 ?_
  have e_1 := z_mul (z_m (rfl : (32 : Int32).toInt = 32)) (z_m (rfl : x1.toInt = _))
  have hq_2 := hw.1
  have hw := hw.2
  have e_3 := z_x e_1 hq_2
  refine k_i0 hH (k_runS (As := [.ref (ad 2), .int (32 * x1)]) (rest := []) X hH.1 hH.2.1 X.2.2.2 (walkX57_number_later hc (x1 := (32 * x1)) (f_count := f_count) (f_runs := f_runs) (f_full := f_full) (f_disk := f_disk) (f_later := f_later) (f_open := f_open) (f_laid := f_laid) (f_places := f_places) (f_changed := f_changed) (f_targets := f_targets) (f_bytes := f_bytes) (f_first := f_first) (f_behind := f_behind) (f_numbers := f_numbers) (f_sectors := f_sectors) (f_oldest := f_oldest) (f_newest := f_newest) (f_keptNumbers := f_keptNumbers) (f_keptSectors := f_keptSectors) (f_kept := f_kept) (f_thrown := f_thrown) (f_head := f_head) (by rw [show (32 * x1 : Int32).toInt = _ from e_3]; exact hw)) (va_cwS 2 X.1.2.2.2.2 gX57_88 rfl rfl rfl hX57_number ⟨Nat.le_of_ble_eq_true rfl, Nat.le_of_ble_eq_true rfl⟩) rfl hl.1 rfl (Nat.le_of_ble_eq_true rfl) dX57_isRight_5 ⟨Nat.le_refl 0, Nat.le_refl 0⟩) (fun r_4 _ H locs hw hH => ?_)
  have hH : kH (dC, dI) cl A s.heap H locs (wX57 ci ad d f_count f_runs f_full f_disk f_later f_open f_laid f_places f_changed f_targets f_bytes f_first f_behind f_numbers f_sectors f_oldest f_newest f_keptNumbers f_keptSectors f_kept f_thrown f_head) := hH
  refine lv_aload_n hx hb dX57_isRight_8 rfl (lv_at hl 0 rfl) ?_
  refine lv_iload_n hx hb dX57_isRight_9 rfl (lv_at hl 1 rfl) ?_
  refine k_i0 hH (k_runS (As := [.ref (ad 2), .int x1]) (rest := [.int r_4]) X hH.1 hH.2.1 X.2.2.2 (walkX57_sum_later hc (x1 := x1) (f_count := f_count) (f_runs := f_runs) (f_full := f_full) (f_disk := f_disk) (f_later := f_later) (f_open := f_open) (f_laid := f_laid) (f_places := f_places) (f_changed := f_changed) (f_targets := f_targets) (f_bytes := f_bytes) (f_first := f_first) (f_behind := f_behind) (f_numbers := f_numbers) (f_sectors := f_sectors) (f_oldest := f_oldest) (f_newest := f_newest) (f_keptNumbers := f_keptNumbers) (f_keptSectors := f_keptSectors) (f_kept := f_kept) (f_thrown := f_thrown) (f_head := f_head) hw) (va_cwS 2 X.1.2.2.2.2 gX57_80 rfl rfl rfl hX57_sum ⟨Nat.le_of_ble_eq_true rfl, Nat.le_of_ble_eq_true rfl⟩) rfl hl.1 rfl (Nat.le_of_ble_eq_true rfl) dX57_isRight_10 ⟨Nat.le_refl 0, Nat.le_refl 0⟩) (fun r_5 _ H locs hw hH => ?_)
  have hH : kH (dC, dI) cl A s.heap H locs (wX57 ci ad d f_count f_runs f_full f_disk f_later f_open f_laid f_places f_changed f_targets f_bytes f_first f_behind f_numbers f_sectors f_oldest f_newest f_keptNumbers f_keptSectors f_kept f_thrown f_head) := hH
  refine lv_icmp_ne (tgt := 20) hx hb dX57_isRight_13 (by decide) (fun c_6 => ?_) (fun c_6 => ?_)
  · have hw := hw.2 (z_ne (rfl : r_4.toInt = _) (rfl : r_5.toInt = _) c_6)
    refine lv_iconst (v := 0) hx hb dX57_isRight_20 (by decide) ?_
    exact k_iret (v := 0) X hH () hw rfl rfl dX57_isRight_21
  · have hw := hw.1 (z_eq (rfl : r_4.toInt = _) (rfl : r_5.toInt = _) c_6)
    refine lv_iconst (v := 1) hx hb dX57_isRight_16 (by decide) ?_
    refine lv_goto (tgt := 21) hx hb dX57_isRight_17 (by decide) ?_
    exact k_iret (v := 1) X hH () hw rfl rfl dX57_isRight_21
set_option maxHeartbeats 4000000 in
theorem atX57_wrong_29 {p : Program} {l : Launch} {e : Env} {s : State} {m : MethodId} {args : Array Value} {below : List Frame} {meth : Method} {c : Code} {dC : Nat → ClassId} {dI : Nat → Nat → Nat} {cl : List vw_C} {ci : Nat} (hc : cl[ci]? = some (RX57, TX57, 22)) {ad : Nat → Nat} {d : Nat → ClassId} {A : Nat → Prop} {post : Int → Prop} {f_count : Int32} {f_runs : Int32} {f_full : Int32} {f_disk : Nat → Int32} {f_later : Nat → Int32} {f_open : Nat → Int32} {f_laid : Nat → Int32} {f_places : Nat → Int32} {f_changed : Int32} {f_targets : Nat → Int32} {f_bytes : Nat → Int32} {f_first : Int32} {f_behind : Int32} {f_numbers : Nat → Int32} {f_sectors : Nat → Int64} {f_oldest : Int32} {f_newest : Int32} {f_keptNumbers : Nat → Int32} {f_keptSectors : Nat → Int64} {f_kept : Int32} {f_thrown : Int32} {f_head : Nat → Int32} (X : kX p s m args meth c cX57_wrong 5 RX57 (some .int) (dC, dI) cl (tX57 d)) {K99 : Int → Int → Prop} {x1 : Int32}  (hk99 : ∀ (x2 : Int32) (x3 : Int32), K99 x2.toInt x3.toInt → ∀ (H : Heap) (locs : List Loc) (ls : Array Slot), kH (dC, dI) cl A s.heap H locs (wX57 ci ad d f_count f_runs f_full f_disk f_later f_open f_laid f_places f_changed f_targets f_bytes f_first f_behind f_numbers f_sectors f_oldest f_newest f_keptNumbers f_keptSectors f_kept f_thrown f_head) → lv_has ls 5 [(0, .ref (ad 0)), (1, .int x1), (2, .int x2), (3, .int x3)] → W p l e ({ frames := 2, cells := 0, slots := 0, locals := 45 } : Room) s m args below meth c H locs 0 0 (MQ below (va_Qi (fun (r : Int32) (_ : Unit) => post r.toInt) (kB (dC, dI) cl (tX57 d) A (fun _ : Unit => (wX57 ci ad d f_count f_runs f_full f_disk f_later f_open f_laid f_places f_changed f_targets f_bytes f_first f_behind f_numbers f_sectors f_oldest f_newest f_keptNumbers f_keptSectors f_kept f_thrown f_head))) A) args s 0 0 A) (F0 m 99 ls [])) :
    ∀ (nn : Nat) (x2 : Int32) (x3 : Int32) (x4 : Int32), wX57_wrong_29 K99 (zF f_later) (zF f_laid) (zF f_places) nn x2.toInt x3.toInt x4.toInt → ∀ (H : Heap) (locs : List Loc) (ls : Array Slot), kH (dC, dI) cl A s.heap H locs (wX57 ci ad d f_count f_runs f_full f_disk f_later f_open f_laid f_places f_changed f_targets f_bytes f_first f_behind f_numbers f_sectors f_oldest f_newest f_keptNumbers f_keptSectors f_kept f_thrown f_head) → lv_has ls 5 [(0, .ref (ad 0)), (1, .int x1), (2, .int x2), (3, .int x3), (4, .int x4)] → W p l e ({ frames := 2, cells := 0, slots := 0, locals := 45 } : Room) s m args below meth c H locs 0 0 (MQ below (va_Qi (fun (r : Int32) (_ : Unit) => post r.toInt) (kB (dC, dI) cl (tX57 d) A (fun _ : Unit => (wX57 ci ad d f_count f_runs f_full f_disk f_later f_open f_laid f_places f_changed f_targets f_bytes f_first f_behind f_numbers f_sectors f_oldest f_newest f_keptNumbers f_keptSectors f_kept f_thrown f_head))) A) args s 0 0 A) (F0 m 29 ls []) := by
  have hx := X.1.1
  have hb := X.1.2.1
  intro nn
  induction nn with
  | zero =>
    intro x2 x3 x4 hw
    exact False.elim hw
  | succ n ih =>
    intro x2 x3 x4 hw H locs ls hH hl
    rw [wX57_wrong_29] at hw
    refine lv_iload hx hb dX57_wrong_29 (lv_at hl 4 rfl) ?_
    refine lv_bipush (v := 30) hx hb dX57_wrong_31 (by decide) ?_
    refine lv_icmp_ge (tgt := 99) hx hb dX57_wrong_33 (by decide) (fun c_4 => ?_) (fun c_4 => ?_)
    · have hw := hw.1 (z_le (rfl : (30 : Int32).toInt = 30) (rfl : x4.toInt = _) c_4)
      exact hk99 x2 x3 hw _ _ ls hH (lv_sub hl [0, 1, 2, 3] rfl)
    · have hw := hw.2 (z_nle (rfl : (30 : Int32).toInt = 30) (rfl : x4.toInt = _) c_4)
      refine lv_aload_n hx hb dX57_wrong_36 rfl (lv_at hl 0 rfl) ?_
      refine k_get X hH in_X57 0 rfl hc 7 (by decide) q6797 rfl dX57_wrong_37 ?_
      refine lv_iload hx hb dX57_wrong_40 (lv_at hl 4 rfl) ?_
      have hq_5 := hw.1
      have hw := hw.2
      refine k_iald X hH 5 4 rfl rfl (z_in (rfl : x4.toInt = _) hq_5) dX57_wrong_42 ?_
      have e_6 := z_ld (f := f_places) (rfl : x4.toInt = _) hq_5.1
      refine lv_iconst (v := (-1)) hx hb dX57_wrong_43 (by decide) ?_
      refine lv_icmp_eq (tgt := 93) hx hb dX57_wrong_44 (by decide) (fun c_7 => ?_) (fun c_7 => ?_)
      · have hw := hw.1 (z_eq e_6 (rfl : ((-1) : Int32).toInt = (-1)) c_7)
        have hq_9 := hw.1
        have hw := hw.2
        obtain ⟨x4_8, ex4_8⟩ : ∃ y : Int32, y = x4 + 1 := ⟨_, rfl⟩
        have hw := hw x4_8.toInt (by rw [ex4_8]; exact (z_x (z_add (z_m (rfl : x4.toInt = _)) (z_m (rfl : (1 : Int32).toInt = 1))) hq_9))
        refine lv_iinc (v := x4_8) (lv' := [(4, .int x4_8), (0, .ref (ad 0)), (1, .int x1), (2, .int x2), (3, .int x3)]) hx hb dX57_wrong_93 hl (k := 4) rfl (by rw [ex4_8]; rfl) (by decide) rfl (fun ls hl => ?_)
        refine lv_goto (tgt := 29) hx hb dX57_wrong_96 (by decide) ?_
        exact ih x2 x3 x4_8 hw _ _ ls hH (lv_sub hl [1, 2, 3, 4, 0] rfl)
      · have hw := hw.2 (z_neq e_6 (rfl : ((-1) : Int32).toInt = (-1)) c_7)
        refine lv_aload_n hx hb dX57_wrong_47 rfl (lv_at hl 0 rfl) ?_
        refine k_get X hH in_X57 0 rfl hc 6 (by decide) q6796 rfl dX57_wrong_48 ?_
        refine lv_aload_n hx hb dX57_wrong_51 rfl (lv_at hl 0 rfl) ?_
        refine k_get X hH in_X57 0 rfl hc 7 (by decide) q6797 rfl dX57_wrong_52 ?_
        refine lv_iload hx hb dX57_wrong_55 (lv_at hl 4 rfl) ?_
        refine k_iald X hH 5 4 rfl rfl (z_in (rfl : x4.toInt = _) hq_5) dX57_wrong_57 ?_
        have e_10 := z_ld (f := f_places) (rfl : x4.toInt = _) hq_5.1
        have hq_11 := hw.1
        have hw := hw.2
        refine k_zald X hH 4 3 rfl rfl (z_in e_10 hq_11) dX57_wrong_58 ?_
        have e_12 := z_ld (f := f_laid) e_10 hq_11.1
        refine lv_if_ne (tgt := 93) hx hb dX57_wrong_59 (by decide) (fun c_13 => ?_) (fun c_13 => ?_)
        · have hw := hw.2 (z_ne e_12 (rfl : (0 : Int32).toInt = 0) c_13)
          have hq_15 := hw.1
          have hw := hw.2
          obtain ⟨x4_14, ex4_14⟩ : ∃ y : Int32, y = x4 + 1 := ⟨_, rfl⟩
          have hw := hw x4_14.toInt (by rw [ex4_14]; exact (z_x (z_add (z_m (rfl : x4.toInt = _)) (z_m (rfl : (1 : Int32).toInt = 1))) hq_15))
          refine lv_iinc (v := x4_14) (lv' := [(4, .int x4_14), (0, .ref (ad 0)), (1, .int x1), (2, .int x2), (3, .int x3)]) hx hb dX57_wrong_93 hl (k := 4) rfl (by rw [ex4_14]; rfl) (by decide) rfl (fun ls hl => ?_)
          refine lv_goto (tgt := 29) hx hb dX57_wrong_96 (by decide) ?_
          exact ih x2 x3 x4_14 hw _ _ ls hH (lv_sub hl [1, 2, 3, 4, 0] rfl)
        · have hw := hw.1 (z_eq e_12 (rfl : (0 : Int32).toInt = 0) c_13)
          refine lv_aload_n hx hb dX57_wrong_62 rfl (lv_at hl 0 rfl) ?_
          refine k_get X hH in_X57 0 rfl hc 4 (by decide) q6794 rfl dX57_wrong_63 ?_
          refine lv_aload_n hx hb dX57_wrong_66 rfl (lv_at hl 0 rfl) ?_
          refine k_get X hH in_X57 0 rfl hc 7 (by decide) q6797 rfl dX57_wrong_67 ?_
          refine lv_iload hx hb dX57_wrong_70 (lv_at hl 4 rfl) ?_
          refine k_iald X hH 5 4 rfl rfl (z_in (rfl : x4.toInt = _) hq_5) dX57_wrong_72 ?_
          have e_16 := z_ld (f := f_places) (rfl : x4.toInt = _) hq_5.1
          refine k_i0 hH (k_runS (As := [.ref (ad 2), .int (f_places x4.toNatClampNeg)]) (rest := []) X hH.1 hH.2.1 X.2.2.2 (walkX57_isRight_later hc (x1 := (f_places x4.toNatClampNeg)) (f_count := f_count) (f_runs := f_runs) (f_full := f_full) (f_disk := f_disk) (f_later := f_later) (f_open := f_open) (f_laid := f_laid) (f_places := f_places) (f_changed := f_changed) (f_targets := f_targets) (f_bytes := f_bytes) (f_first := f_first) (f_behind := f_behind) (f_numbers := f_numbers) (f_sectors := f_sectors) (f_oldest := f_oldest) (f_newest := f_newest) (f_keptNumbers := f_keptNumbers) (f_keptSectors := f_keptSectors) (f_kept := f_kept) (f_thrown := f_thrown) (f_head := f_head) (by rw [show (f_places x4.toNatClampNeg : Int32).toInt = _ from e_16]; exact hw)) (va_cwS 2 X.1.2.2.2.2 gX57_150 rfl rfl rfl hX57_isRight ⟨Nat.le_of_ble_eq_true rfl, Nat.le_of_ble_eq_true rfl⟩) rfl hl.1 rfl (Nat.le_of_ble_eq_true rfl) dX57_wrong_73 ⟨Nat.le_refl 0, Nat.le_refl 0⟩) (fun r_17 _ H locs hw hH => ?_)
          have hH : kH (dC, dI) cl A s.heap H locs (wX57 ci ad d f_count f_runs f_full f_disk f_later f_open f_laid f_places f_changed f_targets f_bytes f_first f_behind f_numbers f_sectors f_oldest f_newest f_keptNumbers f_keptSectors f_kept f_thrown f_head) := hH
          refine lv_if_eq (tgt := 82) hx hb dX57_wrong_76 (by decide) (fun c_18 => ?_) (fun c_18 => ?_)
          · have hw := hw.1 (z_eq (rfl : r_17.toInt = _) (rfl : (0 : Int32).toInt = 0) c_18)
            have hq_20 := hw.1
            have hw := hw.2
            obtain ⟨x2_19, ex2_19⟩ : ∃ y : Int32, y = x2 + 1 := ⟨_, rfl⟩
            have hw := hw x2_19.toInt (by rw [ex2_19]; exact (z_x (z_add (z_m (rfl : x2.toInt = _)) (z_m (rfl : (1 : Int32).toInt = 1))) hq_20))
            refine lv_iinc (v := x2_19) (lv' := [(2, .int x2_19), (0, .ref (ad 0)), (1, .int x1), (3, .int x3), (4, .int x4)]) hx hb dX57_wrong_82 hl (k := 2) rfl (by rw [ex2_19]; rfl) (by decide) rfl (fun ls hl => ?_)
            refine lv_iload_n hx hb dX57_wrong_85 rfl (lv_at hl 3 rfl) ?_
            refine lv_iconst (v := (-1)) hx hb dX57_wrong_86 (by decide) ?_
            refine lv_icmp_ne (tgt := 93) hx hb dX57_wrong_87 (by decide) (fun c_21 => ?_) (fun c_21 => ?_)
            · have hw := hw.2 (z_ne (rfl : x3.toInt = _) (rfl : ((-1) : Int32).toInt = (-1)) c_21)
              have hq_23 := hw.1
              have hw := hw.2
              obtain ⟨x4_22, ex4_22⟩ : ∃ y : Int32, y = x4 + 1 := ⟨_, rfl⟩
              have hw := hw x4_22.toInt (by rw [ex4_22]; exact (z_x (z_add (z_m (rfl : x4.toInt = _)) (z_m (rfl : (1 : Int32).toInt = 1))) hq_23))
              refine lv_iinc (v := x4_22) (lv' := [(4, .int x4_22), (2, .int x2_19), (0, .ref (ad 0)), (1, .int x1), (3, .int x3)]) hx hb dX57_wrong_93 hl (k := 4) rfl (by rw [ex4_22]; rfl) (by decide) rfl (fun ls hl => ?_)
              refine lv_goto (tgt := 29) hx hb dX57_wrong_96 (by decide) ?_
              exact ih x2_19 x3 x4_22 hw _ _ ls hH (lv_sub hl [2, 3, 1, 4, 0] rfl)
            · have hw := hw.1 (z_eq (rfl : x3.toInt = _) (rfl : ((-1) : Int32).toInt = (-1)) c_21)
              refine lv_iload hx hb dX57_wrong_90 (lv_at hl 4 rfl) ?_
              refine lv_istore_n (lv' := [(3, .int x4), (2, .int x2_19), (0, .ref (ad 0)), (1, .int x1), (4, .int x4)]) hx hb dX57_wrong_92 rfl hl (by decide) rfl (fun ls hl => ?_)
              have hq_25 := hw.1
              have hw := hw.2
              obtain ⟨x4_24, ex4_24⟩ : ∃ y : Int32, y = x4 + 1 := ⟨_, rfl⟩
              have hw := hw x4_24.toInt (by rw [ex4_24]; exact (z_x (z_add (z_m (rfl : x4.toInt = _)) (z_m (rfl : (1 : Int32).toInt = 1))) hq_25))
              refine lv_iinc (v := x4_24) (lv' := [(4, .int x4_24), (3, .int x4), (2, .int x2_19), (0, .ref (ad 0)), (1, .int x1)]) hx hb dX57_wrong_93 hl (k := 4) rfl (by rw [ex4_24]; rfl) (by decide) rfl (fun ls hl => ?_)
              refine lv_goto (tgt := 29) hx hb dX57_wrong_96 (by decide) ?_
              exact ih x2_19 x4 x4_24 hw _ _ ls hH (lv_sub hl [3, 4, 2, 1, 0] rfl)
          · have hw := hw.2 (z_neq (rfl : r_17.toInt = _) (rfl : (0 : Int32).toInt = 0) c_18)
            refine lv_goto (tgt := 93) hx hb dX57_wrong_79 (by decide) ?_
            have hq_27 := hw.1
            have hw := hw.2
            obtain ⟨x4_26, ex4_26⟩ : ∃ y : Int32, y = x4 + 1 := ⟨_, rfl⟩
            have hw := hw x4_26.toInt (by rw [ex4_26]; exact (z_x (z_add (z_m (rfl : x4.toInt = _)) (z_m (rfl : (1 : Int32).toInt = 1))) hq_27))
            refine lv_iinc (v := x4_26) (lv' := [(4, .int x4_26), (0, .ref (ad 0)), (1, .int x1), (2, .int x2), (3, .int x3)]) hx hb dX57_wrong_93 hl (k := 4) rfl (by rw [ex4_26]; rfl) (by decide) rfl (fun ls hl => ?_)
            refine lv_goto (tgt := 29) hx hb dX57_wrong_96 (by decide) ?_
            exact ih x2 x3 x4_26 hw _ _ ls hH (lv_sub hl [1, 2, 3, 4, 0] rfl)
set_option maxHeartbeats 4000000 in
theorem walkX57_wrong {l : Launch} {dC : Nat → ClassId} {dI : Nat → Nat → Nat} {cl : List vw_C} {ci : Nat} (hc : cl[ci]? = some (RX57, TX57, 22)) {ad : Nat → Nat} {d : Nat → ClassId} {sz : Nat} {f_count : Int32} {f_runs : Int32} {f_full : Int32} {f_disk : Nat → Int32} {f_later : Nat → Int32} {f_open : Nat → Int32} {f_laid : Nat → Int32} {f_places : Nat → Int32} {f_changed : Int32} {f_targets : Nat → Int32} {f_bytes : Nat → Int32} {f_first : Int32} {f_behind : Int32} {f_numbers : Nat → Int32} {f_sectors : Nat → Int64} {f_oldest : Int32} {f_newest : Int32} {f_keptNumbers : Nat → Int32} {f_keptSectors : Nat → Int64} {f_kept : Int32} {f_thrown : Int32} {f_head : Nat → Int32} {x1 : Int32} {post : Int → Prop} (hw : wpX57_wrong post f_runs.toInt (zF f_later) (zF f_laid) (zF f_places) x1.toInt) :
    Met l yX57_wrong (ws_ yX57_wrong cX57_wrong 5 (some .int)) ({ frames := 2, cells := 0, slots := 0, locals := 45 } : Room) (kPc (dC, dI) cl (tX57 d) [.ref (ad 0), .int x1] sz (wX57 ci ad d f_count f_runs f_full f_disk f_later f_open f_laid f_places f_changed f_targets f_bytes f_first f_behind f_numbers f_sectors f_oldest f_newest f_keptNumbers f_keptSectors f_kept f_thrown f_head)) (va_Qi (fun (r : Int32) (_ : Unit) => post r.toInt) (kB (dC, dI) cl (tX57 d) (va_A (wX57 ci ad d f_count f_runs f_full f_disk f_later f_open f_laid f_places f_changed f_targets f_bytes f_first f_behind f_numbers f_sectors f_oldest f_newest f_keptNumbers f_keptSectors f_kept f_thrown f_head) sz) (fun _ : Unit => (wX57 ci ad d f_count f_runs f_full f_disk f_later f_open f_laid f_places f_changed f_targets f_bytes f_first f_behind f_numbers f_sectors f_oldest f_newest f_keptNumbers f_keptSectors f_kept f_thrown f_head))) (va_A (wX57 ci ad d f_count f_runs f_full f_disk f_later f_open f_laid f_places f_changed f_targets f_bytes f_first f_behind f_numbers f_sectors f_oldest f_newest f_keptNumbers f_keptSectors f_kept f_thrown f_head) sz)) 0 0 (va_A (wX57 ci ad d f_count f_runs f_full f_disk f_later f_open f_laid f_places f_changed f_targets f_bytes f_first f_behind f_numbers f_sectors f_oldest f_newest f_keptNumbers f_keptSectors f_kept f_thrown f_head) sz) := by
  refine k_enter (by decide) (Nat.le_of_ble_eq_true rfl) ?_
  intro p e s m below meth c ls X hsz hH hl
  subst hsz
  generalize va_A (wX57 ci ad d f_count f_runs f_full f_disk f_later f_open f_laid f_places f_changed f_targets f_bytes f_first f_behind f_numbers f_sectors f_oldest f_newest f_keptNumbers f_keptSectors f_kept f_thrown f_head) s.heap.size = A at hH ⊢
  have hx := X.1.1
  have hb := X.1.2.1
  have hl : lv_has ls 5 [(0, .ref (ad 0)), (1, .int x1)] := hl
  unfold wpX57_wrong at hw
  refine lv_aload_n hx hb dX57_wrong_0 rfl (lv_at hl 0 rfl) ?_
  refine k_get X hH in_X57 0 rfl hc 1 (by decide) q6791 rfl dX57_wrong_1 ?_
  refine lv_if_ne (tgt := 10) hx hb dX57_wrong_4 (by decide) (fun c_1 => ?_) (fun c_1 => ?_)
  · have hw := hw.2 (z_ne (rfl : f_runs.toInt = _) (rfl : (0 : Int32).toInt = 0) c_1)
    refine lv_iload_n hx hb dX57_wrong_10 rfl (lv_at hl 1 rfl) ?_
    refine lv_if_lt (tgt := 19) hx hb dX57_wrong_11 (by decide) (fun c_2 => ?_) (fun c_2 => ?_)
    · have hw := hw.1 (z_lt (rfl : x1.toInt = _) (rfl : (0 : Int32).toInt = 0) c_2)
      refine lv_bipush (v := (-2)) hx hb dX57_wrong_19 (by decide) ?_
      exact k_iret (v := (-2)) X hH () hw rfl rfl dX57_wrong_21
    · have hw := hw.2 (z_nlt (rfl : x1.toInt = _) (rfl : (0 : Int32).toInt = 0) c_2)
      refine lv_iload_n hx hb dX57_wrong_14 rfl (lv_at hl 1 rfl) ?_
      refine lv_iconst (v := 2) hx hb dX57_wrong_15 (by decide) ?_
      refine lv_icmp_le (tgt := 22) hx hb dX57_wrong_16 (by decide) (fun c_3 => ?_) (fun c_3 => ?_)
      · have hw := hw.1 (z_le (rfl : x1.toInt = _) (rfl : (2 : Int32).toInt = 2) c_3)
        refine lv_iconst (v := 0) hx hb dX57_wrong_22 (by decide) ?_
        refine lv_istore_n (lv' := [(2, .int 0), (0, .ref (ad 0)), (1, .int x1)]) hx hb dX57_wrong_23 rfl hl (by decide) rfl (fun ls hl => ?_)
        refine lv_iconst (v := (-1)) hx hb dX57_wrong_24 (by decide) ?_
        refine lv_istore_n (lv' := [(3, .int ((-1))), (2, .int 0), (0, .ref (ad 0)), (1, .int x1)]) hx hb dX57_wrong_25 rfl hl (by decide) rfl (fun ls hl => ?_)
        refine lv_iconst (v := 0) hx hb dX57_wrong_26 (by decide) ?_
        refine lv_istore (lv' := [(4, .int 0), (3, .int ((-1))), (2, .int 0), (0, .ref (ad 0)), (1, .int x1)]) hx hb dX57_wrong_27 hl (by decide) rfl (fun ls hl => ?_)
        obtain ⟨fu, hw⟩ := hw
        refine atX57_wrong_29 hc X ?_ fu 0 (-1) 0 hw _ _ ls hH (lv_sub hl [3, 4, 2, 1, 0] rfl)
        · intro x2_28 x3_29 hw H locs ls hH hl
          refine lv_iload_n hx hb dX57_wrong_99 rfl (lv_at hl 1 rfl) ?_
          refine lv_if_ne (tgt := 107) hx hb dX57_wrong_100 (by decide) (fun c_30 => ?_) (fun c_30 => ?_)
          · have hw := hw.2 (z_ne (rfl : x1.toInt = _) (rfl : (0 : Int32).toInt = 0) c_30)
            refine lv_iload_n hx hb dX57_wrong_107 rfl (lv_at hl 3 rfl) ?_
            refine lv_iconst (v := (-1)) hx hb dX57_wrong_108 (by decide) ?_
            refine lv_icmp_ne (tgt := 116) hx hb dX57_wrong_109 (by decide) (fun c_31 => ?_) (fun c_31 => ?_)
            · have hw := hw.2 (z_ne (rfl : x3_29.toInt = _) (rfl : ((-1) : Int32).toInt = (-1)) c_31)
              refine lv_iload_n hx hb dX57_wrong_116 rfl (lv_at hl 1 rfl) ?_
              refine lv_iconst (v := 1) hx hb dX57_wrong_117 (by decide) ?_
              refine lv_icmp_ne (tgt := 125) hx hb dX57_wrong_118 (by decide) (fun c_32 => ?_) (fun c_32 => ?_)
              · have hw := hw.2 (z_ne (rfl : x1.toInt = _) (rfl : (1 : Int32).toInt = 1) c_32)
                refine lv_aload_n hx hb dX57_wrong_125 rfl (lv_at hl 0 rfl) ?_
                refine k_get X hH in_X57 0 rfl hc 7 (by decide) q6797 rfl dX57_wrong_126 ?_
                refine lv_iload_n hx hb dX57_wrong_129 rfl (lv_at hl 3 rfl) ?_
                have hq_33 := hw.1
                have hw := hw.2
                refine k_iald X hH 5 4 rfl rfl (z_in (rfl : x3_29.toInt = _) hq_33) dX57_wrong_130 ?_
                have e_34 := z_ld (f := f_places) (rfl : x3_29.toInt = _) hq_33.1
                exact k_iret (v := f_places x3_29.toNatClampNeg) X hH () (by rw [show (f_places x3_29.toNatClampNeg : Int32).toInt = _ from e_34]; exact hw) rfl rfl dX57_wrong_131
              · have hw := hw.1 (z_eq (rfl : x1.toInt = _) (rfl : (1 : Int32).toInt = 1) c_32)
                refine lv_iload_n hx hb dX57_wrong_121 rfl (lv_at hl 3 rfl) ?_
                refine lv_goto (tgt := 131) hx hb dX57_wrong_122 (by decide) ?_
                exact k_iret (v := x3_29) X hH () hw rfl rfl dX57_wrong_131
            · have hw := hw.1 (z_eq (rfl : x3_29.toInt = _) (rfl : ((-1) : Int32).toInt = (-1)) c_31)
              refine lv_iconst (v := (-1)) hx hb dX57_wrong_112 (by decide) ?_
              refine lv_goto (tgt := 131) hx hb dX57_wrong_113 (by decide) ?_
              exact k_iret (v := (-1)) X hH () hw rfl rfl dX57_wrong_131
          · have hw := hw.1 (z_eq (rfl : x1.toInt = _) (rfl : (0 : Int32).toInt = 0) c_30)
            refine lv_iload_n hx hb dX57_wrong_103 rfl (lv_at hl 2 rfl) ?_
            refine lv_goto (tgt := 131) hx hb dX57_wrong_104 (by decide) ?_
            exact k_iret (v := x2_28) X hH () hw rfl rfl dX57_wrong_131
      · have hw := hw.2 (z_nle (rfl : x1.toInt = _) (rfl : (2 : Int32).toInt = 2) c_3)
        refine lv_bipush (v := (-2)) hx hb dX57_wrong_19 (by decide) ?_
        exact k_iret (v := (-2)) X hH () hw rfl rfl dX57_wrong_21
  · have hw := hw.1 (z_eq (rfl : f_runs.toInt = _) (rfl : (0 : Int32).toInt = 0) c_1)
    refine lv_bipush (v := (-3)) hx hb dX57_wrong_7 (by decide) ?_
    exact k_iret (v := (-3)) X hH () hw rfl rfl dX57_wrong_9
set_option maxHeartbeats 4000000 in
theorem atX57_bits_4 {p : Program} {l : Launch} {e : Env} {s : State} {m : MethodId} {args : Array Value} {below : List Frame} {meth : Method} {c : Code} {dC : Nat → ClassId} {dI : Nat → Nat → Nat} {cl : List vw_C} {ci : Nat} (hc : cl[ci]? = some (RX57, TX57, 22)) {ad : Nat → Nat} {d : Nat → ClassId} {A : Nat → Prop} {post : Int → Prop} {f_count : Int32} {f_runs : Int32} {f_full : Int32} {f_disk : Nat → Int32} {f_later : Nat → Int32} {f_open : Nat → Int32} {f_laid : Nat → Int32} {f_places : Nat → Int32} {f_changed : Int32} {f_targets : Nat → Int32} {f_bytes : Nat → Int32} {f_first : Int32} {f_behind : Int32} {f_numbers : Nat → Int32} {f_sectors : Nat → Int64} {f_oldest : Int32} {f_newest : Int32} {f_keptNumbers : Nat → Int32} {f_keptSectors : Nat → Int64} {f_kept : Int32} {f_thrown : Int32} {f_head : Nat → Int32} (X : kX p s m args meth c cX57_bits 4 RX57 (some .int) (dC, dI) cl (tX57 d)) {K25 : Int → Prop} {x0 : Int64}  (hk25 : ∀ (x2 : Int32), K25 x2.toInt → ∀ (H : Heap) (locs : List Loc) (ls : Array Slot), kH (dC, dI) cl A s.heap H locs (wX57 ci ad d f_count f_runs f_full f_disk f_later f_open f_laid f_places f_changed f_targets f_bytes f_first f_behind f_numbers f_sectors f_oldest f_newest f_keptNumbers f_keptSectors f_kept f_thrown f_head) → lv_has ls 4 [(2, .int x2)] → W p l e ({ frames := 0, cells := 0, slots := 0, locals := 0 } : Room) s m args below meth c H locs 0 0 (MQ below (va_Qi (fun (r : Int32) (_ : Unit) => post r.toInt) (kB (dC, dI) cl (tX57 d) A (fun _ : Unit => (wX57 ci ad d f_count f_runs f_full f_disk f_later f_open f_laid f_places f_changed f_targets f_bytes f_first f_behind f_numbers f_sectors f_oldest f_newest f_keptNumbers f_keptSectors f_kept f_thrown f_head))) A) args s 0 0 A) (F0 m 25 ls [])) :
    ∀ (nn : Nat) (x2 : Int32) (x3 : Int32), wX57_bits_4 K25 x0.toInt nn x2.toInt x3.toInt → ∀ (H : Heap) (locs : List Loc) (ls : Array Slot), kH (dC, dI) cl A s.heap H locs (wX57 ci ad d f_count f_runs f_full f_disk f_later f_open f_laid f_places f_changed f_targets f_bytes f_first f_behind f_numbers f_sectors f_oldest f_newest f_keptNumbers f_keptSectors f_kept f_thrown f_head) → lv_has ls 4 [(0, .long x0), (2, .int x2), (3, .int x3)] → W p l e ({ frames := 0, cells := 0, slots := 0, locals := 0 } : Room) s m args below meth c H locs 0 0 (MQ below (va_Qi (fun (r : Int32) (_ : Unit) => post r.toInt) (kB (dC, dI) cl (tX57 d) A (fun _ : Unit => (wX57 ci ad d f_count f_runs f_full f_disk f_later f_open f_laid f_places f_changed f_targets f_bytes f_first f_behind f_numbers f_sectors f_oldest f_newest f_keptNumbers f_keptSectors f_kept f_thrown f_head))) A) args s 0 0 A) (F0 m 4 ls []) := by
  have hx := X.1.1
  have hb := X.1.2.1
  intro nn
  induction nn with
  | zero =>
    intro x2 x3 hw
    exact False.elim hw
  | succ n ih =>
    intro x2 x3 hw H locs ls hH hl
    rw [wX57_bits_4] at hw
    refine lv_iload_n hx hb dX57_bits_4 rfl (lv_at hl 2 rfl) ?_
    refine lv_bipush (v := 64) hx hb dX57_bits_5 (by decide) ?_
    refine lv_icmp_ge (tgt := 25) hx hb dX57_bits_7 (by decide) (fun c_1 => ?_) (fun c_1 => ?_)
    · have hw := hw.1 (z_le (rfl : (64 : Int32).toInt = 64) (rfl : x3.toInt = _) c_1)
      exact hk25 x2 hw _ _ ls hH (lv_sub hl [1] rfl)
    · have hw := hw.2 (z_nle (rfl : (64 : Int32).toInt = 64) (rfl : x3.toInt = _) c_1)
      refine lv_iload_n hx hb dX57_bits_10 rfl (lv_at hl 1 rfl) ?_
      refine lv_lload_n hx hb dX57_bits_11 rfl (lv_at hl 0 rfl) ?_
      refine lv_iload_n hx hb dX57_bits_12 rfl (lv_at hl 2 rfl) ?_
      refine lv_lshr (v := x0 >>> (x3.toInt64 &&& 63)) hx hb dX57_bits_13 rfl ?_
      have hq_2 := hw.1
      have hw := hw.2
      have e_3 := zL_shrV (rfl : x0.toInt = _) (rfl : x3.toInt = _) hq_2
      refine lv_lconst (v := 1) hx hb dX57_bits_14 (by decide) ?_
      refine lv_land hx hb dX57_bits_15 ?_
      have e_4 := zL_mask (zL_m e_3) (k := 1) (mm := 1) (c := 2) (by decide)
      refine lv_l2i (v := ((x0 >>> (x3.toInt64 &&& 63)) &&& 1).toInt32) hx hb dX57_bits_16 rfl ?_
      have e_5 := z_l2iM (zL_m e_4)
      refine lv_iadd hx hb dX57_bits_17 ?_
      have e_6 := z_add (z_m (rfl : x2.toInt = _)) e_5
      have hq_7 := hw.1
      have hw := hw.2
      have e_8 := z_x e_6 hq_7
      refine lv_topi (fun x2_9 ex2_9 => ?_)
      have hw := hw x2_9.toInt (by rw [ex2_9]; exact e_8)
      refine lv_istore_n (lv' := [(2, .int x2_9), (0, .long x0), (3, .int x3)]) hx hb dX57_bits_18 rfl hl (by decide) rfl (fun ls hl => ?_)
      have hq_11 := hw.1
      have hw := hw.2
      obtain ⟨x3_10, ex3_10⟩ : ∃ y : Int32, y = x3 + 1 := ⟨_, rfl⟩
      have hw := hw x3_10.toInt (by rw [ex3_10]; exact (z_x (z_add (z_m (rfl : x3.toInt = _)) (z_m (rfl : (1 : Int32).toInt = 1))) hq_11))
      refine lv_iinc (v := x3_10) (lv' := [(3, .int x3_10), (2, .int x2_9), (0, .long x0)]) hx hb dX57_bits_19 hl (k := 2) rfl (by rw [ex3_10]; rfl) (by decide) rfl (fun ls hl => ?_)
      refine lv_goto (tgt := 4) hx hb dX57_bits_22 (by decide) ?_
      exact ih x2_9 x3_10 hw _ _ ls hH (lv_sub hl [2, 1, 0] rfl)
set_option maxHeartbeats 4000000 in
theorem walkX57_bits {l : Launch} {dC : Nat → ClassId} {dI : Nat → Nat → Nat} {cl : List vw_C} {ci : Nat} (hc : cl[ci]? = some (RX57, TX57, 22)) {ad : Nat → Nat} {d : Nat → ClassId} {sz : Nat} {f_count : Int32} {f_runs : Int32} {f_full : Int32} {f_disk : Nat → Int32} {f_later : Nat → Int32} {f_open : Nat → Int32} {f_laid : Nat → Int32} {f_places : Nat → Int32} {f_changed : Int32} {f_targets : Nat → Int32} {f_bytes : Nat → Int32} {f_first : Int32} {f_behind : Int32} {f_numbers : Nat → Int32} {f_sectors : Nat → Int64} {f_oldest : Int32} {f_newest : Int32} {f_keptNumbers : Nat → Int32} {f_keptSectors : Nat → Int64} {f_kept : Int32} {f_thrown : Int32} {f_head : Nat → Int32} {x0 : Int64} {post : Int → Prop} (hw : wpX57_bits post  x0.toInt) :
    Met l yX57_bits (ws_ yX57_bits cX57_bits 4 (some .int)) ({ frames := 0, cells := 0, slots := 0, locals := 0 } : Room) (kPc (dC, dI) cl (tX57 d) [.long x0] sz (wX57 ci ad d f_count f_runs f_full f_disk f_later f_open f_laid f_places f_changed f_targets f_bytes f_first f_behind f_numbers f_sectors f_oldest f_newest f_keptNumbers f_keptSectors f_kept f_thrown f_head)) (va_Qi (fun (r : Int32) (_ : Unit) => post r.toInt) (kB (dC, dI) cl (tX57 d) (va_A (wX57 ci ad d f_count f_runs f_full f_disk f_later f_open f_laid f_places f_changed f_targets f_bytes f_first f_behind f_numbers f_sectors f_oldest f_newest f_keptNumbers f_keptSectors f_kept f_thrown f_head) sz) (fun _ : Unit => (wX57 ci ad d f_count f_runs f_full f_disk f_later f_open f_laid f_places f_changed f_targets f_bytes f_first f_behind f_numbers f_sectors f_oldest f_newest f_keptNumbers f_keptSectors f_kept f_thrown f_head))) (va_A (wX57 ci ad d f_count f_runs f_full f_disk f_later f_open f_laid f_places f_changed f_targets f_bytes f_first f_behind f_numbers f_sectors f_oldest f_newest f_keptNumbers f_keptSectors f_kept f_thrown f_head) sz)) 0 0 (va_A (wX57 ci ad d f_count f_runs f_full f_disk f_later f_open f_laid f_places f_changed f_targets f_bytes f_first f_behind f_numbers f_sectors f_oldest f_newest f_keptNumbers f_keptSectors f_kept f_thrown f_head) sz) := by
  refine k_enter (by decide) (Nat.le_of_ble_eq_true rfl) ?_
  intro p e s m below meth c ls X hsz hH hl
  subst hsz
  generalize va_A (wX57 ci ad d f_count f_runs f_full f_disk f_later f_open f_laid f_places f_changed f_targets f_bytes f_first f_behind f_numbers f_sectors f_oldest f_newest f_keptNumbers f_keptSectors f_kept f_thrown f_head) s.heap.size = A at hH ⊢
  have hx := X.1.1
  have hb := X.1.2.1
  have hl : lv_has ls 4 [(0, .long x0)] := hl
  unfold wpX57_bits at hw
  refine lv_iconst (v := 0) hx hb dX57_bits_0 (by decide) ?_
  refine lv_istore_n (lv' := [(2, .int 0), (0, .long x0)]) hx hb dX57_bits_1 rfl hl (by decide) rfl (fun ls hl => ?_)
  refine lv_iconst (v := 0) hx hb dX57_bits_2 (by decide) ?_
  refine lv_istore_n (lv' := [(3, .int 0), (2, .int 0), (0, .long x0)]) hx hb dX57_bits_3 rfl hl (by decide) rfl (fun ls hl => ?_)
  obtain ⟨fu, hw⟩ := hw
  refine atX57_bits_4 hc X ?_ fu 0 0 hw _ _ ls hH (lv_sub hl [2, 1, 0] rfl)
  · intro x2_12 hw H locs ls hH hl
    refine lv_iload_n hx hb dX57_bits_25 rfl (lv_at hl 0 rfl) ?_
    exact k_iret (v := x2_12) X hH () hw rfl rfl dX57_bits_26
set_option maxHeartbeats 4000000 in
theorem walkX57_backup {l : Launch} {dC : Nat → ClassId} {dI : Nat → Nat → Nat} {cl : List vw_C} {ci : Nat} (hc : cl[ci]? = some (RX57, TX57, 22)) {ad : Nat → Nat} {d : Nat → ClassId} {sz : Nat} {f_count : Int32} {f_runs : Int32} {f_full : Int32} {f_disk : Nat → Int32} {f_later : Nat → Int32} {f_open : Nat → Int32} {f_laid : Nat → Int32} {f_places : Nat → Int32} {f_changed : Int32} {f_targets : Nat → Int32} {f_bytes : Nat → Int32} {f_first : Int32} {f_behind : Int32} {f_numbers : Nat → Int32} {f_sectors : Nat → Int64} {f_oldest : Int32} {f_newest : Int32} {f_keptNumbers : Nat → Int32} {f_keptSectors : Nat → Int64} {f_kept : Int32} {f_thrown : Int32} {f_head : Nat → Int32} {x1 : Int32} {post : Int → (Int → Int) → (Int → Int) → Int → Prop} (hw : wpX57_backup post f_runs.toInt (zF f_numbers) (zG f_sectors) f_newest.toInt (zF f_keptNumbers) (zG f_keptSectors) f_kept.toInt x1.toInt) :
    Met l yX57_backup (ws_ yX57_backup cX57_backup 2 (some .int)) ({ frames := 1, cells := 0, slots := 0, locals := 23 } : Room) (kPc (dC, dI) cl (tX57 d) [.ref (ad 0), .int x1] sz (wX57 ci ad d f_count f_runs f_full f_disk f_later f_open f_laid f_places f_changed f_targets f_bytes f_first f_behind f_numbers f_sectors f_oldest f_newest f_keptNumbers f_keptSectors f_kept f_thrown f_head)) (va_Qi (fun (r : Int32) (u : (Nat → Int32) × (Nat → Int64) × Int32) => post r.toInt (zF (u.1)) (zG (u.2.1)) (u.2.2).toInt) (kB (dC, dI) cl (tX57 d) (va_A (wX57 ci ad d f_count f_runs f_full f_disk f_later f_open f_laid f_places f_changed f_targets f_bytes f_first f_behind f_numbers f_sectors f_oldest f_newest f_keptNumbers f_keptSectors f_kept f_thrown f_head) sz) (fun u : (Nat → Int32) × (Nat → Int64) × Int32 => (wX57 ci ad d f_count f_runs f_full f_disk f_later f_open f_laid f_places f_changed f_targets f_bytes f_first f_behind f_numbers f_sectors f_oldest f_newest (u.1) (u.2.1) (u.2.2) f_thrown f_head))) (va_A (wX57 ci ad d f_count f_runs f_full f_disk f_later f_open f_laid f_places f_changed f_targets f_bytes f_first f_behind f_numbers f_sectors f_oldest f_newest f_keptNumbers f_keptSectors f_kept f_thrown f_head) sz)) 0 0 (va_A (wX57 ci ad d f_count f_runs f_full f_disk f_later f_open f_laid f_places f_changed f_targets f_bytes f_first f_behind f_numbers f_sectors f_oldest f_newest f_keptNumbers f_keptSectors f_kept f_thrown f_head) sz) := by
  refine k_enter (by decide) (Nat.le_of_ble_eq_true rfl) ?_
  intro p e s m below meth c ls X hsz hH hl
  subst hsz
  generalize va_A (wX57 ci ad d f_count f_runs f_full f_disk f_later f_open f_laid f_places f_changed f_targets f_bytes f_first f_behind f_numbers f_sectors f_oldest f_newest f_keptNumbers f_keptSectors f_kept f_thrown f_head) s.heap.size = A at hH ⊢
  have hx := X.1.1
  have hb := X.1.2.1
  have hl : lv_has ls 2 [(0, .ref (ad 0)), (1, .int x1)] := hl
  unfold wpX57_backup at hw
  refine lv_aload_n hx hb dX57_backup_0 rfl (lv_at hl 0 rfl) ?_
  refine k_get X hH in_X57 0 rfl hc 1 (by decide) q6791 rfl dX57_backup_1 ?_
  refine lv_if_ne (tgt := 10) hx hb dX57_backup_4 (by decide) (fun c_1 => ?_) (fun c_1 => ?_)
  · have hw := hw.2 (z_ne (rfl : f_runs.toInt = _) (rfl : (0 : Int32).toInt = 0) c_1)
    refine lv_aload_n hx hb dX57_backup_10 rfl (lv_at hl 0 rfl) ?_
    refine k_get X hH in_X57 0 rfl hc 13 (by decide) q6803 rfl dX57_backup_11 ?_
    refine lv_aload_n hx hb dX57_backup_14 rfl (lv_at hl 0 rfl) ?_
    refine k_get X hH in_X57 0 rfl hc 16 (by decide) q6806 rfl dX57_backup_15 ?_
    have hq_2 := hw.1
    have hw := hw.2
    refine k_iald X hH 8 7 rfl rfl (z_in (rfl : f_newest.toInt = _) hq_2) dX57_backup_18 ?_
    have e_3 := z_ld (f := f_numbers) (rfl : f_newest.toInt = _) hq_2.1
    refine lv_iload_n hx hb dX57_backup_19 rfl (lv_at hl 1 rfl) ?_
    refine lv_icmp_eq (tgt := 25) hx hb dX57_backup_20 (by decide) (fun c_4 => ?_) (fun c_4 => ?_)
    · have hw := hw.1 (z_eq e_3 (rfl : x1.toInt = _) c_4)
      refine lv_aload_n hx hb dX57_backup_25 rfl (lv_at hl 0 rfl) ?_
      refine k_get X hH in_X57 0 rfl hc 19 (by decide) q6809 rfl dX57_backup_26 ?_
      refine lv_iconst (v := 4) hx hb dX57_backup_29 (by decide) ?_
      refine lv_icmp_ne (tgt := 36) hx hb dX57_backup_30 (by decide) (fun c_5 => ?_) (fun c_5 => ?_)
      · have hw := hw.2 (z_ne (rfl : f_kept.toInt = _) (rfl : (4 : Int32).toInt = 4) c_5)
        refine lv_aload_n hx hb dX57_backup_36 rfl (lv_at hl 0 rfl) ?_
        refine k_get X hH in_X57 0 rfl hc 17 (by decide) q6807 rfl dX57_backup_37 ?_
        refine lv_aload_n hx hb dX57_backup_40 rfl (lv_at hl 0 rfl) ?_
        refine k_get X hH in_X57 0 rfl hc 19 (by decide) q6809 rfl dX57_backup_41 ?_
        refine lv_iload_n hx hb dX57_backup_44 rfl (lv_at hl 1 rfl) ?_
        have hq_7 := hw.1
        have hw := hw.2
        obtain ⟨f_keptNumbers_6, ef_keptNumbers_6⟩ : ∃ y : Nat → Int32, y = upd f_keptNumbers f_kept.toNatClampNeg x1 := ⟨_, rfl⟩
        refine k_iast X hH 10 9 rfl rfl (z_in (rfl : f_kept.toInt = _) hq_7) dX57_backup_45 ef_keptNumbers_6 (ws1 := (wX57 ci ad d f_count f_runs f_full f_disk f_later f_open f_laid f_places f_changed f_targets f_bytes f_first f_behind f_numbers f_sectors f_oldest f_newest f_keptNumbers_6 f_keptSectors f_kept f_thrown f_head)) rfl (fun H locs hH => ?_)
        have hw := hw (zF f_keptNumbers_6) (by rw [ef_keptNumbers_6]; exact z_st (f := f_keptNumbers) (rfl : f_kept.toInt = _) hq_7.1 (rfl : x1.toInt = _))
        refine lv_aload_n hx hb dX57_backup_46 rfl (lv_at hl 0 rfl) ?_
        refine k_get X hH in_X57 0 rfl hc 18 (by decide) q6808 rfl dX57_backup_47 ?_
        refine lv_aload_n hx hb dX57_backup_50 rfl (lv_at hl 0 rfl) ?_
        refine k_get X hH in_X57 0 rfl hc 19 (by decide) q6809 rfl dX57_backup_51 ?_
        refine lv_aload_n hx hb dX57_backup_54 rfl (lv_at hl 0 rfl) ?_
        refine k_get X hH in_X57 0 rfl hc 14 (by decide) q6804 rfl dX57_backup_55 ?_
        refine lv_aload_n hx hb dX57_backup_58 rfl (lv_at hl 0 rfl) ?_
        refine k_get X hH in_X57 0 rfl hc 16 (by decide) q6806 rfl dX57_backup_59 ?_
        refine k_lald X hH 9 8 rfl rfl (z_in (rfl : f_newest.toInt = _) hq_2) dX57_backup_62 ?_
        have e_8 := z_ldL (f := f_sectors) (rfl : f_newest.toInt = _) hq_2.1
        refine lv_topl (fun v_9 ev_9 => ?_)
        have hw := hw v_9.toInt (by rw [ev_9]; exact e_8)
        obtain ⟨f_keptSectors_10, ef_keptSectors_10⟩ : ∃ y : Nat → Int64, y = vp_updL f_keptSectors f_kept.toNatClampNeg v_9 := ⟨_, rfl⟩
        refine k_last X hH 11 10 rfl rfl (z_in (rfl : f_kept.toInt = _) hq_7) dX57_backup_63 ef_keptSectors_10 (ws1 := (wX57 ci ad d f_count f_runs f_full f_disk f_later f_open f_laid f_places f_changed f_targets f_bytes f_first f_behind f_numbers f_sectors f_oldest f_newest f_keptNumbers_6 f_keptSectors_10 f_kept f_thrown f_head)) rfl (fun H locs hH => ?_)
        have hw := hw (zG f_keptSectors_10) (by rw [ef_keptSectors_10]; exact z_stL (f := f_keptSectors) (rfl : f_kept.toInt = _) hq_7.1 (rfl : v_9.toInt = _))
        refine lv_aload_n hx hb dX57_backup_64 rfl (lv_at hl 0 rfl) ?_
        refine lv_dup hx hb dX57_backup_65 rfl ?_
        refine k_get X hH in_X57 0 rfl hc 19 (by decide) q6809 rfl dX57_backup_66 ?_
        refine lv_iconst (v := 1) hx hb dX57_backup_69 (by decide) ?_
        refine lv_iadd hx hb dX57_backup_70 ?_
        have e_11 := z_add (z_m (rfl : f_kept.toInt = _)) (z_m (rfl : (1 : Int32).toInt = 1))
        have hq_12 := hw.1
        have hw := hw.2
        have e_13 := z_x e_11 hq_12
        refine lv_topi (fun f_kept_14 ef_kept_14 => ?_)
        have hw := hw f_kept_14.toInt (by rw [ef_kept_14]; exact e_13)
        refine k_put X hH in_X57 tyX57_ok nmX57 0 rfl hc 19 (by decide) q6809 rfl (ty := .int) rfl rfl rfl (Nat.le_of_ble_eq_true rfl) dX57_backup_71 (ws1 := (wX57 ci ad d f_count f_runs f_full f_disk f_later f_open f_laid f_places f_changed f_targets f_bytes f_first f_behind f_numbers f_sectors f_oldest f_newest f_keptNumbers_6 f_keptSectors_10 f_kept_14 f_thrown f_head)) rfl (fun H locs hH => ?_)
        refine lv_aload_n hx hb dX57_backup_74 rfl (lv_at hl 0 rfl) ?_
        refine k_get X hH in_X57 0 rfl hc 14 (by decide) q6804 rfl dX57_backup_75 ?_
        refine lv_aload_n hx hb dX57_backup_78 rfl (lv_at hl 0 rfl) ?_
        refine k_get X hH in_X57 0 rfl hc 16 (by decide) q6806 rfl dX57_backup_79 ?_
        refine k_lald X hH 9 8 rfl rfl (z_in (rfl : f_newest.toInt = _) hq_2) dX57_backup_82 ?_
        have e_15 := z_ldL (f := f_sectors) (rfl : f_newest.toInt = _) hq_2.1
        refine k_i0 hH (k_runS (As := [.long (f_sectors f_newest.toNatClampNeg)]) (rest := []) X hH.1 hH.2.1 X.2.2.2 (walkX57_bits hc (x0 := (f_sectors f_newest.toNatClampNeg)) (f_count := f_count) (f_runs := f_runs) (f_full := f_full) (f_disk := f_disk) (f_later := f_later) (f_open := f_open) (f_laid := f_laid) (f_places := f_places) (f_changed := f_changed) (f_targets := f_targets) (f_bytes := f_bytes) (f_first := f_first) (f_behind := f_behind) (f_numbers := f_numbers) (f_sectors := f_sectors) (f_oldest := f_oldest) (f_newest := f_newest) (f_keptNumbers := f_keptNumbers_6) (f_keptSectors := f_keptSectors_10) (f_kept := f_kept_14) (f_thrown := f_thrown) (f_head := f_head) (by rw [show (f_sectors f_newest.toNatClampNeg : Int64).toInt = _ from e_15]; exact hw)) (va_cwS 1 X.1.2.2.2.2 gX57_171 rfl rfl rfl hX57_bits ⟨Nat.le_of_ble_eq_true rfl, Nat.le_of_ble_eq_true rfl⟩) rfl hl.1 rfl (Nat.le_of_ble_eq_true rfl) dX57_backup_83 ⟨Nat.le_refl 0, Nat.le_refl 0⟩) (fun r_16 _ H locs hw hH => ?_)
        have hH : kH (dC, dI) cl A s.heap H locs (wX57 ci ad d f_count f_runs f_full f_disk f_later f_open f_laid f_places f_changed f_targets f_bytes f_first f_behind f_numbers f_sectors f_oldest f_newest f_keptNumbers_6 f_keptSectors_10 f_kept_14 f_thrown f_head) := hH
        exact k_iret (v := r_16) X hH (f_keptNumbers_6, f_keptSectors_10, f_kept_14) hw rfl rfl dX57_backup_86
      · have hw := hw.1 (z_eq (rfl : f_kept.toInt = _) (rfl : (4 : Int32).toInt = 4) c_5)
        refine lv_bipush (v := (-4)) hx hb dX57_backup_33 (by decide) ?_
        exact k_iret (v := (-4)) X hH (f_keptNumbers, f_keptSectors, f_kept) hw rfl rfl dX57_backup_35
    · have hw := hw.2 (z_neq e_3 (rfl : x1.toInt = _) c_4)
      refine lv_iconst (v := (-1)) hx hb dX57_backup_23 (by decide) ?_
      exact k_iret (v := (-1)) X hH (f_keptNumbers, f_keptSectors, f_kept) hw rfl rfl dX57_backup_24
  · have hw := hw.1 (z_eq (rfl : f_runs.toInt = _) (rfl : (0 : Int32).toInt = 0) c_1)
    refine lv_bipush (v := (-3)) hx hb dX57_backup_7 (by decide) ?_
    exact k_iret (v := (-3)) X hH (f_keptNumbers, f_keptSectors, f_kept) hw rfl rfl dX57_backup_9
set_option maxHeartbeats 4000000 in
theorem atX57_heldCount_4 {p : Program} {l : Launch} {e : Env} {s : State} {m : MethodId} {args : Array Value} {below : List Frame} {meth : Method} {c : Code} {dC : Nat → ClassId} {dI : Nat → Nat → Nat} {cl : List vw_C} {ci : Nat} (hc : cl[ci]? = some (RX57, TX57, 22)) {ad : Nat → Nat} {d : Nat → ClassId} {A : Nat → Prop} {post : Int → Prop} {f_count : Int32} {f_runs : Int32} {f_full : Int32} {f_disk : Nat → Int32} {f_later : Nat → Int32} {f_open : Nat → Int32} {f_laid : Nat → Int32} {f_places : Nat → Int32} {f_changed : Int32} {f_targets : Nat → Int32} {f_bytes : Nat → Int32} {f_first : Int32} {f_behind : Int32} {f_numbers : Nat → Int32} {f_sectors : Nat → Int64} {f_oldest : Int32} {f_newest : Int32} {f_keptNumbers : Nat → Int32} {f_keptSectors : Nat → Int64} {f_kept : Int32} {f_thrown : Int32} {f_head : Nat → Int32} (X : kX p s m args meth c cX57_heldCount 3 RX57 (some .int) (dC, dI) cl (tX57 d)) {K32 : Int → Prop}   (hk32 : ∀ (x1 : Int32), K32 x1.toInt → ∀ (H : Heap) (locs : List Loc) (ls : Array Slot), kH (dC, dI) cl A s.heap H locs (wX57 ci ad d f_count f_runs f_full f_disk f_later f_open f_laid f_places f_changed f_targets f_bytes f_first f_behind f_numbers f_sectors f_oldest f_newest f_keptNumbers f_keptSectors f_kept f_thrown f_head) → lv_has ls 3 [(1, .int x1)] → W p l e ({ frames := 2, cells := 0, slots := 0, locals := 46 } : Room) s m args below meth c H locs 0 0 (MQ below (va_Qi (fun (r : Int32) (_ : Unit) => post r.toInt) (kB (dC, dI) cl (tX57 d) A (fun _ : Unit => (wX57 ci ad d f_count f_runs f_full f_disk f_later f_open f_laid f_places f_changed f_targets f_bytes f_first f_behind f_numbers f_sectors f_oldest f_newest f_keptNumbers f_keptSectors f_kept f_thrown f_head))) A) args s 0 0 A) (F0 m 32 ls [])) :
    ∀ (nn : Nat) (x1 : Int32) (x2 : Int32), wX57_heldCount_4 K32 (zF f_places) (zF f_targets) f_first.toInt f_behind.toInt (zG f_sectors) f_oldest.toInt f_newest.toInt (zG f_keptSectors) f_kept.toInt nn x1.toInt x2.toInt → ∀ (H : Heap) (locs : List Loc) (ls : Array Slot), kH (dC, dI) cl A s.heap H locs (wX57 ci ad d f_count f_runs f_full f_disk f_later f_open f_laid f_places f_changed f_targets f_bytes f_first f_behind f_numbers f_sectors f_oldest f_newest f_keptNumbers f_keptSectors f_kept f_thrown f_head) → lv_has ls 3 [(0, .ref (ad 0)), (1, .int x1), (2, .int x2)] → W p l e ({ frames := 2, cells := 0, slots := 0, locals := 46 } : Room) s m args below meth c H locs 0 0 (MQ below (va_Qi (fun (r : Int32) (_ : Unit) => post r.toInt) (kB (dC, dI) cl (tX57 d) A (fun _ : Unit => (wX57 ci ad d f_count f_runs f_full f_disk f_later f_open f_laid f_places f_changed f_targets f_bytes f_first f_behind f_numbers f_sectors f_oldest f_newest f_keptNumbers f_keptSectors f_kept f_thrown f_head))) A) args s 0 0 A) (F0 m 4 ls []) := by
  have hx := X.1.1
  have hb := X.1.2.1
  intro nn
  induction nn with
  | zero =>
    intro x1 x2 hw
    exact False.elim hw
  | succ n ih =>
    intro x1 x2 hw H locs ls hH hl
    rw [wX57_heldCount_4] at hw
    refine lv_iload_n hx hb dX57_heldCount_4 rfl (lv_at hl 2 rfl) ?_
    refine lv_bipush (v := 64) hx hb dX57_heldCount_5 (by decide) ?_
    refine lv_icmp_ge (tgt := 32) hx hb dX57_heldCount_7 (by decide) (fun c_1 => ?_) (fun c_1 => ?_)
    · have hw := hw.1 (z_le (rfl : (64 : Int32).toInt = 64) (rfl : x2.toInt = _) c_1)
      exact hk32 x1 hw _ _ ls hH (lv_sub hl [1] rfl)
    · have hw := hw.2 (z_nle (rfl : (64 : Int32).toInt = 64) (rfl : x2.toInt = _) c_1)
      refine lv_iload_n hx hb dX57_heldCount_10 rfl (lv_at hl 1 rfl) ?_
      refine lv_aload_n hx hb dX57_heldCount_11 rfl (lv_at hl 0 rfl) ?_
      refine lv_iload_n hx hb dX57_heldCount_12 rfl (lv_at hl 2 rfl) ?_
      refine k_i0 hH (k_runV (As := [.int x2]) (rest := [.int x1]) X hH.1 hH.2.1 X.2.2.2 (walkX57_isHeld hc (x1 := x2) (f_count := f_count) (f_runs := f_runs) (f_full := f_full) (f_disk := f_disk) (f_later := f_later) (f_open := f_open) (f_laid := f_laid) (f_places := f_places) (f_changed := f_changed) (f_targets := f_targets) (f_bytes := f_bytes) (f_first := f_first) (f_behind := f_behind) (f_numbers := f_numbers) (f_sectors := f_sectors) (f_oldest := f_oldest) (f_newest := f_newest) (f_keptNumbers := f_keptNumbers) (f_keptSectors := f_keptSectors) (f_kept := f_kept) (f_thrown := f_thrown) (f_head := f_head) hw) (cwV 1 X.1.2.2.2.2 gX57_108 rfl rfl rfl hX57_isHeld ⟨Nat.le_of_ble_eq_true rfl, Nat.le_of_ble_eq_true rfl⟩) hc (q0 := 0) rfl rfl hl.1 rfl (Nat.le_of_ble_eq_true rfl) dX57_heldCount_13 ⟨Nat.le_refl 0, Nat.le_refl 0⟩) (fun r_2 _ H locs hw hH => ?_)
      have hH : kH (dC, dI) cl A s.heap H locs (wX57 ci ad d f_count f_runs f_full f_disk f_later f_open f_laid f_places f_changed f_targets f_bytes f_first f_behind f_numbers f_sectors f_oldest f_newest f_keptNumbers f_keptSectors f_kept f_thrown f_head) := hH
      refine lv_if_eq (tgt := 23) hx hb dX57_heldCount_16 (by decide) (fun c_3 => ?_) (fun c_3 => ?_)
      · have hw := hw.1 (z_eq (rfl : r_2.toInt = _) (rfl : (0 : Int32).toInt = 0) c_3)
        refine lv_iconst (v := 0) hx hb dX57_heldCount_23 (by decide) ?_
        refine lv_iadd hx hb dX57_heldCount_24 ?_
        have e_4 := z_add (z_m (rfl : x1.toInt = _)) (z_m (rfl : (0 : Int32).toInt = 0))
        have hq_5 := hw.1
        have hw := hw.2
        have e_6 := z_x e_4 hq_5
        refine lv_topi (fun x1_7 ex1_7 => ?_)
        have hw := hw x1_7.toInt (by rw [ex1_7]; exact e_6)
        refine lv_istore_n (lv' := [(1, .int x1_7), (0, .ref (ad 0)), (2, .int x2)]) hx hb dX57_heldCount_25 rfl hl (by decide) rfl (fun ls hl => ?_)
        have hq_9 := hw.1
        have hw := hw.2
        obtain ⟨x2_8, ex2_8⟩ : ∃ y : Int32, y = x2 + 1 := ⟨_, rfl⟩
        have hw := hw x2_8.toInt (by rw [ex2_8]; exact (z_x (z_add (z_m (rfl : x2.toInt = _)) (z_m (rfl : (1 : Int32).toInt = 1))) hq_9))
        refine lv_iinc (v := x2_8) (lv' := [(2, .int x2_8), (1, .int x1_7), (0, .ref (ad 0))]) hx hb dX57_heldCount_26 hl (k := 2) rfl (by rw [ex2_8]; rfl) (by decide) rfl (fun ls hl => ?_)
        refine lv_goto (tgt := 4) hx hb dX57_heldCount_29 (by decide) ?_
        exact ih x1_7 x2_8 hw _ _ ls hH (lv_sub hl [2, 1, 0] rfl)
      · have hw := hw.2 (z_neq (rfl : r_2.toInt = _) (rfl : (0 : Int32).toInt = 0) c_3)
        refine lv_iconst (v := 1) hx hb dX57_heldCount_19 (by decide) ?_
        refine lv_goto (tgt := 24) hx hb dX57_heldCount_20 (by decide) ?_
        refine lv_iadd hx hb dX57_heldCount_24 ?_
        have e_10 := z_add (z_m (rfl : x1.toInt = _)) (z_m (rfl : (1 : Int32).toInt = 1))
        have hq_11 := hw.1
        have hw := hw.2
        have e_12 := z_x e_10 hq_11
        refine lv_topi (fun x1_13 ex1_13 => ?_)
        have hw := hw x1_13.toInt (by rw [ex1_13]; exact e_12)
        refine lv_istore_n (lv' := [(1, .int x1_13), (0, .ref (ad 0)), (2, .int x2)]) hx hb dX57_heldCount_25 rfl hl (by decide) rfl (fun ls hl => ?_)
        have hq_15 := hw.1
        have hw := hw.2
        obtain ⟨x2_14, ex2_14⟩ : ∃ y : Int32, y = x2 + 1 := ⟨_, rfl⟩
        have hw := hw x2_14.toInt (by rw [ex2_14]; exact (z_x (z_add (z_m (rfl : x2.toInt = _)) (z_m (rfl : (1 : Int32).toInt = 1))) hq_15))
        refine lv_iinc (v := x2_14) (lv' := [(2, .int x2_14), (1, .int x1_13), (0, .ref (ad 0))]) hx hb dX57_heldCount_26 hl (k := 2) rfl (by rw [ex2_14]; rfl) (by decide) rfl (fun ls hl => ?_)
        refine lv_goto (tgt := 4) hx hb dX57_heldCount_29 (by decide) ?_
        exact ih x1_13 x2_14 hw _ _ ls hH (lv_sub hl [2, 1, 0] rfl)
set_option maxHeartbeats 4000000 in
theorem walkX57_heldCount {l : Launch} {dC : Nat → ClassId} {dI : Nat → Nat → Nat} {cl : List vw_C} {ci : Nat} (hc : cl[ci]? = some (RX57, TX57, 22)) {ad : Nat → Nat} {d : Nat → ClassId} {sz : Nat} {f_count : Int32} {f_runs : Int32} {f_full : Int32} {f_disk : Nat → Int32} {f_later : Nat → Int32} {f_open : Nat → Int32} {f_laid : Nat → Int32} {f_places : Nat → Int32} {f_changed : Int32} {f_targets : Nat → Int32} {f_bytes : Nat → Int32} {f_first : Int32} {f_behind : Int32} {f_numbers : Nat → Int32} {f_sectors : Nat → Int64} {f_oldest : Int32} {f_newest : Int32} {f_keptNumbers : Nat → Int32} {f_keptSectors : Nat → Int64} {f_kept : Int32} {f_thrown : Int32} {f_head : Nat → Int32}  {post : Int → Prop} (hw : wpX57_heldCount post (zF f_places) (zF f_targets) f_first.toInt f_behind.toInt (zG f_sectors) f_oldest.toInt f_newest.toInt (zG f_keptSectors) f_kept.toInt ) :
    Met l yX57_heldCount (ws_ yX57_heldCount cX57_heldCount 3 (some .int)) ({ frames := 2, cells := 0, slots := 0, locals := 46 } : Room) (kPc (dC, dI) cl (tX57 d) [.ref (ad 0)] sz (wX57 ci ad d f_count f_runs f_full f_disk f_later f_open f_laid f_places f_changed f_targets f_bytes f_first f_behind f_numbers f_sectors f_oldest f_newest f_keptNumbers f_keptSectors f_kept f_thrown f_head)) (va_Qi (fun (r : Int32) (_ : Unit) => post r.toInt) (kB (dC, dI) cl (tX57 d) (va_A (wX57 ci ad d f_count f_runs f_full f_disk f_later f_open f_laid f_places f_changed f_targets f_bytes f_first f_behind f_numbers f_sectors f_oldest f_newest f_keptNumbers f_keptSectors f_kept f_thrown f_head) sz) (fun _ : Unit => (wX57 ci ad d f_count f_runs f_full f_disk f_later f_open f_laid f_places f_changed f_targets f_bytes f_first f_behind f_numbers f_sectors f_oldest f_newest f_keptNumbers f_keptSectors f_kept f_thrown f_head))) (va_A (wX57 ci ad d f_count f_runs f_full f_disk f_later f_open f_laid f_places f_changed f_targets f_bytes f_first f_behind f_numbers f_sectors f_oldest f_newest f_keptNumbers f_keptSectors f_kept f_thrown f_head) sz)) 0 0 (va_A (wX57 ci ad d f_count f_runs f_full f_disk f_later f_open f_laid f_places f_changed f_targets f_bytes f_first f_behind f_numbers f_sectors f_oldest f_newest f_keptNumbers f_keptSectors f_kept f_thrown f_head) sz) := by
  refine k_enter (by decide) (Nat.le_of_ble_eq_true rfl) ?_
  intro p e s m below meth c ls X hsz hH hl
  subst hsz
  generalize va_A (wX57 ci ad d f_count f_runs f_full f_disk f_later f_open f_laid f_places f_changed f_targets f_bytes f_first f_behind f_numbers f_sectors f_oldest f_newest f_keptNumbers f_keptSectors f_kept f_thrown f_head) s.heap.size = A at hH ⊢
  have hx := X.1.1
  have hb := X.1.2.1
  have hl : lv_has ls 3 [(0, .ref (ad 0))] := hl
  unfold wpX57_heldCount at hw
  refine lv_iconst (v := 0) hx hb dX57_heldCount_0 (by decide) ?_
  refine lv_istore_n (lv' := [(1, .int 0), (0, .ref (ad 0))]) hx hb dX57_heldCount_1 rfl hl (by decide) rfl (fun ls hl => ?_)
  refine lv_iconst (v := 2) hx hb dX57_heldCount_2 (by decide) ?_
  refine lv_istore_n (lv' := [(2, .int 2), (1, .int 0), (0, .ref (ad 0))]) hx hb dX57_heldCount_3 rfl hl (by decide) rfl (fun ls hl => ?_)
  obtain ⟨fu, hw⟩ := hw
  refine atX57_heldCount_4 hc X ?_ fu 0 2 hw _ _ ls hH (lv_sub hl [2, 1, 0] rfl)
  · intro x1_16 hw H locs ls hH hl
    refine lv_iload_n hx hb dX57_heldCount_32 rfl (lv_at hl 0 rfl) ?_
    exact k_iret (v := x1_16) X hH () hw rfl rfl dX57_heldCount_33
set_option maxHeartbeats 4000000 in
theorem atX57_drop_12 {p : Program} {l : Launch} {e : Env} {s : State} {m : MethodId} {args : Array Value} {below : List Frame} {meth : Method} {c : Code} {dC : Nat → ClassId} {dI : Nat → Nat → Nat} {cl : List vw_C} {ci : Nat} (hc : cl[ci]? = some (RX57, TX57, 22)) {ad : Nat → Nat} {d : Nat → ClassId} {A : Nat → Prop} {post : Int → (Int → Int) → (Int → Int) → Int → Prop} {f_count : Int32} {f_runs : Int32} {f_full : Int32} {f_disk : Nat → Int32} {f_later : Nat → Int32} {f_open : Nat → Int32} {f_laid : Nat → Int32} {f_places : Nat → Int32} {f_changed : Int32} {f_targets : Nat → Int32} {f_bytes : Nat → Int32} {f_first : Int32} {f_behind : Int32} {f_numbers : Nat → Int32} {f_sectors : Nat → Int64} {f_oldest : Int32} {f_newest : Int32} {f_thrown : Int32} {f_head : Nat → Int32} (X : kX p s m args meth c cX57_drop 5 RX57 (some .int) (dC, dI) cl (tX57 d)) {K36 : Int → Prop} {x1 : Int32} {f_keptNumbers : Nat → Int32} {f_keptSectors : Nat → Int64} {f_kept : Int32} (hk36 : ∀ (x2 : Int32), K36 x2.toInt → ∀ (H : Heap) (locs : List Loc) (ls : Array Slot), kH (dC, dI) cl A s.heap H locs (wX57 ci ad d f_count f_runs f_full f_disk f_later f_open f_laid f_places f_changed f_targets f_bytes f_first f_behind f_numbers f_sectors f_oldest f_newest f_keptNumbers f_keptSectors f_kept f_thrown f_head) → lv_has ls 5 [(0, .ref (ad 0)), (2, .int x2)] → W p l e ({ frames := 3, cells := 0, slots := 0, locals := 68 } : Room) s m args below meth c H locs 0 0 (MQ below (va_Qi (fun (r : Int32) (u : (Nat → Int32) × (Nat → Int64) × Int32) => post r.toInt (zF (u.1)) (zG (u.2.1)) (u.2.2).toInt) (kB (dC, dI) cl (tX57 d) A (fun u : (Nat → Int32) × (Nat → Int64) × Int32 => (wX57 ci ad d f_count f_runs f_full f_disk f_later f_open f_laid f_places f_changed f_targets f_bytes f_first f_behind f_numbers f_sectors f_oldest f_newest (u.1) (u.2.1) (u.2.2) f_thrown f_head))) A) args s 0 0 A) (F0 m 36 ls [])) :
    ∀ (nn : Nat) (x2 : Int32), wX57_drop_12 K36 x1.toInt (zF f_keptNumbers) f_kept.toInt nn x2.toInt → ∀ (H : Heap) (locs : List Loc) (ls : Array Slot), kH (dC, dI) cl A s.heap H locs (wX57 ci ad d f_count f_runs f_full f_disk f_later f_open f_laid f_places f_changed f_targets f_bytes f_first f_behind f_numbers f_sectors f_oldest f_newest f_keptNumbers f_keptSectors f_kept f_thrown f_head) → lv_has ls 5 [(0, .ref (ad 0)), (1, .int x1), (2, .int x2)] → W p l e ({ frames := 3, cells := 0, slots := 0, locals := 68 } : Room) s m args below meth c H locs 0 0 (MQ below (va_Qi (fun (r : Int32) (u : (Nat → Int32) × (Nat → Int64) × Int32) => post r.toInt (zF (u.1)) (zG (u.2.1)) (u.2.2).toInt) (kB (dC, dI) cl (tX57 d) A (fun u : (Nat → Int32) × (Nat → Int64) × Int32 => (wX57 ci ad d f_count f_runs f_full f_disk f_later f_open f_laid f_places f_changed f_targets f_bytes f_first f_behind f_numbers f_sectors f_oldest f_newest (u.1) (u.2.1) (u.2.2) f_thrown f_head))) A) args s 0 0 A) (F0 m 12 ls []) := by
  have hx := X.1.1
  have hb := X.1.2.1
  intro nn
  induction nn with
  | zero =>
    intro x2 hw
    exact False.elim hw
  | succ n ih =>
    intro x2 hw H locs ls hH hl
    rw [wX57_drop_12] at hw
    refine lv_iload_n hx hb dX57_drop_12 rfl (lv_at hl 2 rfl) ?_
    refine lv_aload_n hx hb dX57_drop_13 rfl (lv_at hl 0 rfl) ?_
    refine k_get X hH in_X57 0 rfl hc 19 (by decide) q6809 rfl dX57_drop_14 ?_
    refine lv_icmp_ge (tgt := 36) hx hb dX57_drop_17 (by decide) (fun c_2 => ?_) (fun c_2 => ?_)
    · have hw := hw.1 (z_le (rfl : f_kept.toInt = _) (rfl : x2.toInt = _) c_2)
      exact hk36 x2 hw _ _ ls hH (lv_sub hl [0, 2] rfl)
    · have hw := hw.2 (z_nle (rfl : f_kept.toInt = _) (rfl : x2.toInt = _) c_2)
      refine lv_aload_n hx hb dX57_drop_20 rfl (lv_at hl 0 rfl) ?_
      refine k_get X hH in_X57 0 rfl hc 17 (by decide) q6807 rfl dX57_drop_21 ?_
      refine lv_iload_n hx hb dX57_drop_24 rfl (lv_at hl 2 rfl) ?_
      have hq_3 := hw.1
      have hw := hw.2
      refine k_iald X hH 10 9 rfl rfl (z_in (rfl : x2.toInt = _) hq_3) dX57_drop_25 ?_
      have e_4 := z_ld (f := f_keptNumbers) (rfl : x2.toInt = _) hq_3.1
      refine lv_iload_n hx hb dX57_drop_26 rfl (lv_at hl 1 rfl) ?_
      refine lv_icmp_eq (tgt := 36) hx hb dX57_drop_27 (by decide) (fun c_5 => ?_) (fun c_5 => ?_)
      · have hw := hw.1 (z_eq e_4 (rfl : x1.toInt = _) c_5)
        exact hk36 x2 hw _ _ ls hH (lv_sub hl [0, 2] rfl)
      · have hw := hw.2 (z_neq e_4 (rfl : x1.toInt = _) c_5)
        have hq_7 := hw.1
        have hw := hw.2
        obtain ⟨x2_6, ex2_6⟩ : ∃ y : Int32, y = x2 + 1 := ⟨_, rfl⟩
        have hw := hw x2_6.toInt (by rw [ex2_6]; exact (z_x (z_add (z_m (rfl : x2.toInt = _)) (z_m (rfl : (1 : Int32).toInt = 1))) hq_7))
        refine lv_iinc (v := x2_6) (lv' := [(2, .int x2_6), (0, .ref (ad 0)), (1, .int x1)]) hx hb dX57_drop_30 hl (k := 2) rfl (by rw [ex2_6]; rfl) (by decide) rfl (fun ls hl => ?_)
        refine lv_goto (tgt := 12) hx hb dX57_drop_33 (by decide) ?_
        exact ih x2_6 hw _ _ ls hH (lv_sub hl [1, 2, 0] rfl)
set_option maxHeartbeats 4000000 in
theorem atX57_drop_64 {p : Program} {l : Launch} {e : Env} {s : State} {m : MethodId} {args : Array Value} {below : List Frame} {meth : Method} {c : Code} {dC : Nat → ClassId} {dI : Nat → Nat → Nat} {cl : List vw_C} {ci : Nat} (hc : cl[ci]? = some (RX57, TX57, 22)) {ad : Nat → Nat} {d : Nat → ClassId} {A : Nat → Prop} {post : Int → (Int → Int) → (Int → Int) → Int → Prop} {f_count : Int32} {f_runs : Int32} {f_full : Int32} {f_disk : Nat → Int32} {f_later : Nat → Int32} {f_open : Nat → Int32} {f_laid : Nat → Int32} {f_places : Nat → Int32} {f_changed : Int32} {f_targets : Nat → Int32} {f_bytes : Nat → Int32} {f_first : Int32} {f_behind : Int32} {f_numbers : Nat → Int32} {f_sectors : Nat → Int64} {f_oldest : Int32} {f_newest : Int32} {f_thrown : Int32} {f_head : Nat → Int32} (X : kX p s m args meth c cX57_drop 5 RX57 (some .int) (dC, dI) cl (tX57 d)) {K111 : (Int → Int) → (Int → Int) → Prop} {x3 : Int32} {f_kept : Int32} (hk111 : ∀ (f_keptNumbers : Nat → Int32) (f_keptSectors : Nat → Int64), K111 (zF f_keptNumbers) (zG f_keptSectors) → ∀ (H : Heap) (locs : List Loc) (ls : Array Slot), kH (dC, dI) cl A s.heap H locs (wX57 ci ad d f_count f_runs f_full f_disk f_later f_open f_laid f_places f_changed f_targets f_bytes f_first f_behind f_numbers f_sectors f_oldest f_newest f_keptNumbers f_keptSectors f_kept f_thrown f_head) → lv_has ls 5 [(0, .ref (ad 0)), (3, .int x3)] → W p l e ({ frames := 3, cells := 0, slots := 0, locals := 68 } : Room) s m args below meth c H locs 0 0 (MQ below (va_Qi (fun (r : Int32) (u : (Nat → Int32) × (Nat → Int64) × Int32) => post r.toInt (zF (u.1)) (zG (u.2.1)) (u.2.2).toInt) (kB (dC, dI) cl (tX57 d) A (fun u : (Nat → Int32) × (Nat → Int64) × Int32 => (wX57 ci ad d f_count f_runs f_full f_disk f_later f_open f_laid f_places f_changed f_targets f_bytes f_first f_behind f_numbers f_sectors f_oldest f_newest (u.1) (u.2.1) (u.2.2) f_thrown f_head))) A) args s 0 0 A) (F0 m 111 ls [])) :
    ∀ (nn : Nat) (x4 : Int32) (f_keptNumbers : Nat → Int32) (f_keptSectors : Nat → Int64), wX57_drop_64 K111 f_kept.toInt nn x4.toInt (zF f_keptNumbers) (zG f_keptSectors) → ∀ (H : Heap) (locs : List Loc) (ls : Array Slot), kH (dC, dI) cl A s.heap H locs (wX57 ci ad d f_count f_runs f_full f_disk f_later f_open f_laid f_places f_changed f_targets f_bytes f_first f_behind f_numbers f_sectors f_oldest f_newest f_keptNumbers f_keptSectors f_kept f_thrown f_head) → lv_has ls 5 [(0, .ref (ad 0)), (3, .int x3), (4, .int x4)] → W p l e ({ frames := 3, cells := 0, slots := 0, locals := 68 } : Room) s m args below meth c H locs 0 0 (MQ below (va_Qi (fun (r : Int32) (u : (Nat → Int32) × (Nat → Int64) × Int32) => post r.toInt (zF (u.1)) (zG (u.2.1)) (u.2.2).toInt) (kB (dC, dI) cl (tX57 d) A (fun u : (Nat → Int32) × (Nat → Int64) × Int32 => (wX57 ci ad d f_count f_runs f_full f_disk f_later f_open f_laid f_places f_changed f_targets f_bytes f_first f_behind f_numbers f_sectors f_oldest f_newest (u.1) (u.2.1) (u.2.2) f_thrown f_head))) A) args s 0 0 A) (F0 m 64 ls []) := by
  have hx := X.1.1
  have hb := X.1.2.1
  intro nn
  induction nn with
  | zero =>
    intro x4 f_keptNumbers f_keptSectors hw
    exact False.elim hw
  | succ n ih =>
    intro x4 f_keptNumbers f_keptSectors hw H locs ls hH hl
    rw [wX57_drop_64] at hw
    refine lv_iload hx hb dX57_drop_64 (lv_at hl 2 rfl) ?_
    refine lv_aload_n hx hb dX57_drop_66 rfl (lv_at hl 0 rfl) ?_
    refine k_get X hH in_X57 0 rfl hc 19 (by decide) q6809 rfl dX57_drop_67 ?_
    refine lv_icmp_ge (tgt := 111) hx hb dX57_drop_70 (by decide) (fun c_15 => ?_) (fun c_15 => ?_)
    · have hw := hw.1 (z_le (rfl : f_kept.toInt = _) (rfl : x4.toInt = _) c_15)
      exact hk111 f_keptNumbers f_keptSectors hw _ _ ls hH (lv_sub hl [0, 1] rfl)
    · have hw := hw.2 (z_nle (rfl : f_kept.toInt = _) (rfl : x4.toInt = _) c_15)
      refine lv_aload_n hx hb dX57_drop_73 rfl (lv_at hl 0 rfl) ?_
      refine k_get X hH in_X57 0 rfl hc 17 (by decide) q6807 rfl dX57_drop_74 ?_
      refine lv_iload hx hb dX57_drop_77 (lv_at hl 2 rfl) ?_
      refine lv_aload_n hx hb dX57_drop_79 rfl (lv_at hl 0 rfl) ?_
      refine k_get X hH in_X57 0 rfl hc 17 (by decide) q6807 rfl dX57_drop_80 ?_
      refine lv_iload hx hb dX57_drop_83 (lv_at hl 2 rfl) ?_
      refine lv_iconst (v := 1) hx hb dX57_drop_85 (by decide) ?_
      refine lv_iadd hx hb dX57_drop_86 ?_
      have e_16 := z_add (z_m (rfl : x4.toInt = _)) (z_m (rfl : (1 : Int32).toInt = 1))
      have hq_17 := hw.1
      have hw := hw.2
      have e_18 := z_xi e_16 hq_17 (by decide)
      refine k_iald X hH 10 9 rfl rfl (z_in e_18 hq_17) dX57_drop_87 ?_
      have e_19 := z_ld (f := f_keptNumbers) e_18 hq_17.1
      refine lv_topi (fun v_20 ev_20 => ?_)
      have hw := hw v_20.toInt (by rw [ev_20]; exact e_19)
      have hq_22 := hw.1
      have hw := hw.2
      obtain ⟨f_keptNumbers_21, ef_keptNumbers_21⟩ : ∃ y : Nat → Int32, y = upd f_keptNumbers x4.toNatClampNeg v_20 := ⟨_, rfl⟩
      refine k_iast X hH 10 9 rfl rfl (z_in (rfl : x4.toInt = _) hq_22) dX57_drop_88 ef_keptNumbers_21 (ws1 := (wX57 ci ad d f_count f_runs f_full f_disk f_later f_open f_laid f_places f_changed f_targets f_bytes f_first f_behind f_numbers f_sectors f_oldest f_newest f_keptNumbers_21 f_keptSectors f_kept f_thrown f_head)) rfl (fun H locs hH => ?_)
      have hw := hw (zF f_keptNumbers_21) (by rw [ef_keptNumbers_21]; exact z_st (f := f_keptNumbers) (rfl : x4.toInt = _) hq_22.1 (rfl : v_20.toInt = _))
      refine lv_aload_n hx hb dX57_drop_89 rfl (lv_at hl 0 rfl) ?_
      refine k_get X hH in_X57 0 rfl hc 18 (by decide) q6808 rfl dX57_drop_90 ?_
      refine lv_iload hx hb dX57_drop_93 (lv_at hl 2 rfl) ?_
      refine lv_aload_n hx hb dX57_drop_95 rfl (lv_at hl 0 rfl) ?_
      refine k_get X hH in_X57 0 rfl hc 18 (by decide) q6808 rfl dX57_drop_96 ?_
      refine lv_iload hx hb dX57_drop_99 (lv_at hl 2 rfl) ?_
      refine lv_iconst (v := 1) hx hb dX57_drop_101 (by decide) ?_
      refine lv_iadd hx hb dX57_drop_102 ?_
      have e_23 := z_add (z_m (rfl : x4.toInt = _)) (z_m (rfl : (1 : Int32).toInt = 1))
      have e_24 := z_xi e_23 hq_17 (by decide)
      refine k_lald X hH 11 10 rfl rfl (z_in e_24 hq_17) dX57_drop_103 ?_
      have e_25 := z_ldL (f := f_keptSectors) e_24 hq_17.1
      refine lv_topl (fun v_26 ev_26 => ?_)
      have hw := hw v_26.toInt (by rw [ev_26]; exact e_25)
      obtain ⟨f_keptSectors_27, ef_keptSectors_27⟩ : ∃ y : Nat → Int64, y = vp_updL f_keptSectors x4.toNatClampNeg v_26 := ⟨_, rfl⟩
      refine k_last X hH 11 10 rfl rfl (z_in (rfl : x4.toInt = _) hq_22) dX57_drop_104 ef_keptSectors_27 (ws1 := (wX57 ci ad d f_count f_runs f_full f_disk f_later f_open f_laid f_places f_changed f_targets f_bytes f_first f_behind f_numbers f_sectors f_oldest f_newest f_keptNumbers_21 f_keptSectors_27 f_kept f_thrown f_head)) rfl (fun H locs hH => ?_)
      have hw := hw (zG f_keptSectors_27) (by rw [ef_keptSectors_27]; exact z_stL (f := f_keptSectors) (rfl : x4.toInt = _) hq_22.1 (rfl : v_26.toInt = _))
      have hq_29 := hw.1
      have hw := hw.2
      obtain ⟨x4_28, ex4_28⟩ : ∃ y : Int32, y = x4 + 1 := ⟨_, rfl⟩
      have hw := hw x4_28.toInt (by rw [ex4_28]; exact (z_x (z_add (z_m (rfl : x4.toInt = _)) (z_m (rfl : (1 : Int32).toInt = 1))) hq_29))
      refine lv_iinc (v := x4_28) (lv' := [(4, .int x4_28), (0, .ref (ad 0)), (3, .int x3)]) hx hb dX57_drop_105 hl (k := 2) rfl (by rw [ex4_28]; rfl) (by decide) rfl (fun ls hl => ?_)
      refine lv_goto (tgt := 64) hx hb dX57_drop_108 (by decide) ?_
      exact ih x4_28 f_keptNumbers_21 f_keptSectors_27 hw _ _ ls hH (lv_sub hl [1, 2, 0] rfl)
set_option maxHeartbeats 4000000 in
theorem atX57_drop_36 {p : Program} {l : Launch} {e : Env} {s : State} {m : MethodId} {args : Array Value} {below : List Frame} {meth : Method} {c : Code} {dC : Nat → ClassId} {dI : Nat → Nat → Nat} {cl : List vw_C} {ci : Nat} (hc : cl[ci]? = some (RX57, TX57, 22)) {ad : Nat → Nat} {d : Nat → ClassId} {A : Nat → Prop} {post : Int → (Int → Int) → (Int → Int) → Int → Prop} {f_count : Int32} {f_runs : Int32} {f_full : Int32} {f_disk : Nat → Int32} {f_later : Nat → Int32} {f_open : Nat → Int32} {f_laid : Nat → Int32} {f_places : Nat → Int32} {f_changed : Int32} {f_targets : Nat → Int32} {f_bytes : Nat → Int32} {f_first : Int32} {f_behind : Int32} {f_numbers : Nat → Int32} {f_sectors : Nat → Int64} {f_oldest : Int32} {f_newest : Int32} {f_thrown : Int32} {f_head : Nat → Int32} (X : kX p s m args meth c cX57_drop 5 RX57 (some .int) (dC, dI) cl (tX57 d))     :
    ∀ (x2 : Int32) (f_keptNumbers : Nat → Int32) (f_keptSectors : Nat → Int64) (f_kept : Int32), wX57_drop_36 post x2.toInt (zF f_places) (zF f_targets) f_first.toInt f_behind.toInt (zG f_sectors) f_oldest.toInt f_newest.toInt (zF f_keptNumbers) (zG f_keptSectors) f_kept.toInt → ∀ (H : Heap) (locs : List Loc) (ls : Array Slot), kH (dC, dI) cl A s.heap H locs (wX57 ci ad d f_count f_runs f_full f_disk f_later f_open f_laid f_places f_changed f_targets f_bytes f_first f_behind f_numbers f_sectors f_oldest f_newest f_keptNumbers f_keptSectors f_kept f_thrown f_head) → lv_has ls 5 [(0, .ref (ad 0)), (2, .int x2)] → W p l e ({ frames := 3, cells := 0, slots := 0, locals := 68 } : Room) s m args below meth c H locs 0 0 (MQ below (va_Qi (fun (r : Int32) (u : (Nat → Int32) × (Nat → Int64) × Int32) => post r.toInt (zF (u.1)) (zG (u.2.1)) (u.2.2).toInt) (kB (dC, dI) cl (tX57 d) A (fun u : (Nat → Int32) × (Nat → Int64) × Int32 => (wX57 ci ad d f_count f_runs f_full f_disk f_later f_open f_laid f_places f_changed f_targets f_bytes f_first f_behind f_numbers f_sectors f_oldest f_newest (u.1) (u.2.1) (u.2.2) f_thrown f_head))) A) args s 0 0 A) (F0 m 36 ls []) := by
  have hx := X.1.1
  have hb := X.1.2.1
  intro x2 f_keptNumbers f_keptSectors f_kept hw H locs ls hH hl
  unfold wX57_drop_36 at hw
  refine lv_iload_n hx hb dX57_drop_36 rfl (lv_at hl 1 rfl) ?_
  refine lv_aload_n hx hb dX57_drop_37 rfl (lv_at hl 0 rfl) ?_
  refine k_get X hH in_X57 0 rfl hc 19 (by decide) q6809 rfl dX57_drop_38 ?_
  refine lv_icmp_ne (tgt := 46) hx hb dX57_drop_41 (by decide) (fun c_9 => ?_) (fun c_9 => ?_)
  · have hw := hw.2 (z_ne (rfl : x2.toInt = _) (rfl : f_kept.toInt = _) c_9)
    refine lv_aload_n hx hb dX57_drop_46 rfl (lv_at hl 0 rfl) ?_
    refine k_i0 hH (k_runV (As := []) (rest := []) X hH.1 hH.2.1 X.2.2.2 (walkX57_heldCount hc (f_count := f_count) (f_runs := f_runs) (f_full := f_full) (f_disk := f_disk) (f_later := f_later) (f_open := f_open) (f_laid := f_laid) (f_places := f_places) (f_changed := f_changed) (f_targets := f_targets) (f_bytes := f_bytes) (f_first := f_first) (f_behind := f_behind) (f_numbers := f_numbers) (f_sectors := f_sectors) (f_oldest := f_oldest) (f_newest := f_newest) (f_keptNumbers := f_keptNumbers) (f_keptSectors := f_keptSectors) (f_kept := f_kept) (f_thrown := f_thrown) (f_head := f_head) hw) (cwV 0 X.1.2.2.2.2 gX57_175 rfl rfl rfl hX57_heldCount ⟨Nat.le_of_ble_eq_true rfl, Nat.le_of_ble_eq_true rfl⟩) hc (q0 := 0) rfl rfl hl.1 rfl (Nat.le_of_ble_eq_true rfl) dX57_drop_47 ⟨Nat.le_refl 0, Nat.le_refl 0⟩) (fun r_10 _ H locs hw hH => ?_)
    have hH : kH (dC, dI) cl A s.heap H locs (wX57 ci ad d f_count f_runs f_full f_disk f_later f_open f_laid f_places f_changed f_targets f_bytes f_first f_behind f_numbers f_sectors f_oldest f_newest f_keptNumbers f_keptSectors f_kept f_thrown f_head) := hH
    refine lv_istore_n (lv' := [(3, .int r_10), (0, .ref (ad 0)), (2, .int x2)]) hx hb dX57_drop_50 rfl hl (by decide) rfl (fun ls hl => ?_)
    refine lv_aload_n hx hb dX57_drop_51 rfl (lv_at hl 1 rfl) ?_
    refine lv_dup hx hb dX57_drop_52 rfl ?_
    refine k_get X hH in_X57 0 rfl hc 19 (by decide) q6809 rfl dX57_drop_53 ?_
    refine lv_iconst (v := 1) hx hb dX57_drop_56 (by decide) ?_
    refine lv_isub hx hb dX57_drop_57 ?_
    have e_11 := z_sub (z_m (rfl : f_kept.toInt = _)) (z_m (rfl : (1 : Int32).toInt = 1))
    have hq_12 := hw.1
    have hw := hw.2
    have e_13 := z_x e_11 hq_12
    refine lv_topi (fun f_kept_14 ef_kept_14 => ?_)
    have hw := hw f_kept_14.toInt (by rw [ef_kept_14]; exact e_13)
    refine k_put X hH in_X57 tyX57_ok nmX57 0 rfl hc 19 (by decide) q6809 rfl (ty := .int) rfl rfl rfl (Nat.le_of_ble_eq_true rfl) dX57_drop_58 (ws1 := (wX57 ci ad d f_count f_runs f_full f_disk f_later f_open f_laid f_places f_changed f_targets f_bytes f_first f_behind f_numbers f_sectors f_oldest f_newest f_keptNumbers f_keptSectors f_kept_14 f_thrown f_head)) rfl (fun H locs hH => ?_)
    refine lv_iload_n hx hb dX57_drop_61 rfl (lv_at hl 2 rfl) ?_
    refine lv_istore (lv' := [(4, .int x2), (3, .int r_10), (0, .ref (ad 0)), (2, .int x2)]) hx hb dX57_drop_62 hl (by decide) rfl (fun ls hl => ?_)
    obtain ⟨fu, hw⟩ := hw
    refine atX57_drop_64 hc X ?_ fu x2 f_keptNumbers f_keptSectors hw _ _ ls hH (lv_sub hl [2, 1, 0] rfl)
    · intro f_keptNumbers_30 f_keptSectors_31 hw H locs ls hH hl
      refine lv_iload_n hx hb dX57_drop_111 rfl (lv_at hl 1 rfl) ?_
      refine lv_aload_n hx hb dX57_drop_112 rfl (lv_at hl 0 rfl) ?_
      refine k_i0 hH (k_runV (As := []) (rest := [.int r_10]) X hH.1 hH.2.1 X.2.2.2 (walkX57_heldCount hc (f_count := f_count) (f_runs := f_runs) (f_full := f_full) (f_disk := f_disk) (f_later := f_later) (f_open := f_open) (f_laid := f_laid) (f_places := f_places) (f_changed := f_changed) (f_targets := f_targets) (f_bytes := f_bytes) (f_first := f_first) (f_behind := f_behind) (f_numbers := f_numbers) (f_sectors := f_sectors) (f_oldest := f_oldest) (f_newest := f_newest) (f_keptNumbers := f_keptNumbers_30) (f_keptSectors := f_keptSectors_31) (f_kept := f_kept_14) (f_thrown := f_thrown) (f_head := f_head) hw) (cwV 0 X.1.2.2.2.2 gX57_175 rfl rfl rfl hX57_heldCount ⟨Nat.le_of_ble_eq_true rfl, Nat.le_of_ble_eq_true rfl⟩) hc (q0 := 0) rfl rfl hl.1 rfl (Nat.le_of_ble_eq_true rfl) dX57_drop_113 ⟨Nat.le_refl 0, Nat.le_refl 0⟩) (fun r_32 _ H locs hw hH => ?_)
      have hH : kH (dC, dI) cl A s.heap H locs (wX57 ci ad d f_count f_runs f_full f_disk f_later f_open f_laid f_places f_changed f_targets f_bytes f_first f_behind f_numbers f_sectors f_oldest f_newest f_keptNumbers_30 f_keptSectors_31 f_kept_14 f_thrown f_head) := hH
      refine lv_isub hx hb dX57_drop_116 ?_
      have e_33 := z_sub (z_m (rfl : r_10.toInt = _)) (z_m (rfl : r_32.toInt = _))
      have hq_34 := hw.1
      have hw := hw.2
      have e_35 := z_x e_33 hq_34
      exact k_iret (v := r_10 - r_32) X hH (f_keptNumbers_30, f_keptSectors_31, f_kept_14) (by rw [show (r_10 - r_32 : Int32).toInt = _ from e_35]; exact hw) rfl rfl dX57_drop_117
  · have hw := hw.1 (z_eq (rfl : x2.toInt = _) (rfl : f_kept.toInt = _) c_9)
    refine lv_iconst (v := (-1)) hx hb dX57_drop_44 (by decide) ?_
    exact k_iret (v := (-1)) X hH (f_keptNumbers, f_keptSectors, f_kept) hw rfl rfl dX57_drop_45
set_option maxHeartbeats 4000000 in
theorem walkX57_drop {l : Launch} {dC : Nat → ClassId} {dI : Nat → Nat → Nat} {cl : List vw_C} {ci : Nat} (hc : cl[ci]? = some (RX57, TX57, 22)) {ad : Nat → Nat} {d : Nat → ClassId} {sz : Nat} {f_count : Int32} {f_runs : Int32} {f_full : Int32} {f_disk : Nat → Int32} {f_later : Nat → Int32} {f_open : Nat → Int32} {f_laid : Nat → Int32} {f_places : Nat → Int32} {f_changed : Int32} {f_targets : Nat → Int32} {f_bytes : Nat → Int32} {f_first : Int32} {f_behind : Int32} {f_numbers : Nat → Int32} {f_sectors : Nat → Int64} {f_oldest : Int32} {f_newest : Int32} {f_keptNumbers : Nat → Int32} {f_keptSectors : Nat → Int64} {f_kept : Int32} {f_thrown : Int32} {f_head : Nat → Int32} {x1 : Int32} {post : Int → (Int → Int) → (Int → Int) → Int → Prop} (hw : wpX57_drop post f_runs.toInt (zF f_places) (zF f_targets) f_first.toInt f_behind.toInt (zG f_sectors) f_oldest.toInt f_newest.toInt (zF f_keptNumbers) (zG f_keptSectors) f_kept.toInt x1.toInt) :
    Met l yX57_drop (ws_ yX57_drop cX57_drop 5 (some .int)) ({ frames := 3, cells := 0, slots := 0, locals := 68 } : Room) (kPc (dC, dI) cl (tX57 d) [.ref (ad 0), .int x1] sz (wX57 ci ad d f_count f_runs f_full f_disk f_later f_open f_laid f_places f_changed f_targets f_bytes f_first f_behind f_numbers f_sectors f_oldest f_newest f_keptNumbers f_keptSectors f_kept f_thrown f_head)) (va_Qi (fun (r : Int32) (u : (Nat → Int32) × (Nat → Int64) × Int32) => post r.toInt (zF (u.1)) (zG (u.2.1)) (u.2.2).toInt) (kB (dC, dI) cl (tX57 d) (va_A (wX57 ci ad d f_count f_runs f_full f_disk f_later f_open f_laid f_places f_changed f_targets f_bytes f_first f_behind f_numbers f_sectors f_oldest f_newest f_keptNumbers f_keptSectors f_kept f_thrown f_head) sz) (fun u : (Nat → Int32) × (Nat → Int64) × Int32 => (wX57 ci ad d f_count f_runs f_full f_disk f_later f_open f_laid f_places f_changed f_targets f_bytes f_first f_behind f_numbers f_sectors f_oldest f_newest (u.1) (u.2.1) (u.2.2) f_thrown f_head))) (va_A (wX57 ci ad d f_count f_runs f_full f_disk f_later f_open f_laid f_places f_changed f_targets f_bytes f_first f_behind f_numbers f_sectors f_oldest f_newest f_keptNumbers f_keptSectors f_kept f_thrown f_head) sz)) 0 0 (va_A (wX57 ci ad d f_count f_runs f_full f_disk f_later f_open f_laid f_places f_changed f_targets f_bytes f_first f_behind f_numbers f_sectors f_oldest f_newest f_keptNumbers f_keptSectors f_kept f_thrown f_head) sz) := by
  refine k_enter (by decide) (Nat.le_of_ble_eq_true rfl) ?_
  intro p e s m below meth c ls X hsz hH hl
  subst hsz
  generalize va_A (wX57 ci ad d f_count f_runs f_full f_disk f_later f_open f_laid f_places f_changed f_targets f_bytes f_first f_behind f_numbers f_sectors f_oldest f_newest f_keptNumbers f_keptSectors f_kept f_thrown f_head) s.heap.size = A at hH ⊢
  have hx := X.1.1
  have hb := X.1.2.1
  have hl : lv_has ls 5 [(0, .ref (ad 0)), (1, .int x1)] := hl
  unfold wpX57_drop at hw
  refine lv_aload_n hx hb dX57_drop_0 rfl (lv_at hl 0 rfl) ?_
  refine k_get X hH in_X57 0 rfl hc 1 (by decide) q6791 rfl dX57_drop_1 ?_
  refine lv_if_ne (tgt := 10) hx hb dX57_drop_4 (by decide) (fun c_1 => ?_) (fun c_1 => ?_)
  · have hw := hw.2 (z_ne (rfl : f_runs.toInt = _) (rfl : (0 : Int32).toInt = 0) c_1)
    refine lv_iconst (v := 0) hx hb dX57_drop_10 (by decide) ?_
    refine lv_istore_n (lv' := [(2, .int 0), (0, .ref (ad 0)), (1, .int x1)]) hx hb dX57_drop_11 rfl hl (by decide) rfl (fun ls hl => ?_)
    obtain ⟨fu, hw⟩ := hw
    refine atX57_drop_12 hc X ?_ fu 0 hw _ _ ls hH (lv_sub hl [1, 2, 0] rfl)
    · intro x2_8 hw H locs ls hH hl
      exact atX57_drop_36 hc X x2_8 f_keptNumbers f_keptSectors f_kept hw _ _ ls hH (lv_sub hl [0, 1] rfl)
  · have hw := hw.1 (z_eq (rfl : f_runs.toInt = _) (rfl : (0 : Int32).toInt = 0) c_1)
    refine lv_bipush (v := (-3)) hx hb dX57_drop_7 (by decide) ?_
    exact k_iret (v := (-3)) X hH (f_keptNumbers, f_keptSectors, f_kept) hw rfl rfl dX57_drop_9
set_option maxHeartbeats 4000000 in
theorem atX57_derived_99 {p : Program} {l : Launch} {e : Env} {s : State} {m : MethodId} {args : Array Value} {below : List Frame} {meth : Method} {c : Code} {dC : Nat → ClassId} {dI : Nat → Nat → Nat} {cl : List vw_C} {ci : Nat} (hc : cl[ci]? = some (RX57, TX57, 22)) {ad : Nat → Nat} {d : Nat → ClassId} {A : Nat → Prop} {post : Int → (Int → Int) → (Int → Int) → (Int → Int) → Int → Prop} {f_count : Int32} {f_runs : Int32} {f_full : Int32} {f_disk : Nat → Int32} {f_later : Nat → Int32} {f_targets : Nat → Int32} {f_bytes : Nat → Int32} {f_first : Int32} {f_behind : Int32} {f_numbers : Nat → Int32} {f_sectors : Nat → Int64} {f_oldest : Int32} {f_newest : Int32} {f_keptNumbers : Nat → Int32} {f_keptSectors : Nat → Int64} {f_kept : Int32} {f_thrown : Int32} {f_head : Nat → Int32} (X : kX p s m args meth c cX57_derived 7 RX57 (some .int) (dC, dI) cl (tX57 d))     :
    ∀ (x1 : Int32) (x2 : Int32) (x3 : Int32) (x4 : Int64) (y0 : Int32) (f_open : Nat → Int32) (f_laid : Nat → Int32) (f_places : Nat → Int32) (f_changed : Int32), wX57_derived_99 post x1.toInt x2.toInt x3.toInt x4.toInt y0.toInt f_count.toInt f_full.toInt (zF f_later) (zF f_open) (zF f_laid) (zF f_places) f_changed.toInt (zF f_targets) f_first.toInt f_behind.toInt (zG f_sectors) f_oldest.toInt f_newest.toInt (zG f_keptSectors) f_kept.toInt → ∀ (H : Heap) (locs : List Loc) (ls : Array Slot), kH (dC, dI) cl A s.heap H locs (wX57 ci ad d f_count f_runs f_full f_disk f_later f_open f_laid f_places f_changed f_targets f_bytes f_first f_behind f_numbers f_sectors f_oldest f_newest f_keptNumbers f_keptSectors f_kept f_thrown f_head) → lv_has ls 7 [(0, .ref (ad 0)), (1, .int x1), (2, .int x2), (3, .int x3), (4, .long x4)] → W p l e ({ frames := 4, cells := 0, slots := 0, locals := 94 } : Room) s m args below meth c H locs 0 0 (MQ below (va_Qi (fun (r : Int32) (u : (Nat → Int32) × (Nat → Int32) × (Nat → Int32) × Int32) => post r.toInt (zF (u.1)) (zF (u.2.1)) (zF (u.2.2.1)) (u.2.2.2).toInt) (kB (dC, dI) cl (tX57 d) A (fun u : (Nat → Int32) × (Nat → Int32) × (Nat → Int32) × Int32 => (wX57 ci ad d f_count f_runs f_full f_disk f_later (u.1) (u.2.1) (u.2.2.1) (u.2.2.2) f_targets f_bytes f_first f_behind f_numbers f_sectors f_oldest f_newest f_keptNumbers f_keptSectors f_kept f_thrown f_head))) A) args s 0 0 A) (F0 m 99 ls [.int y0]) := by
  have hx := X.1.1
  have hb := X.1.2.1
  intro x1 x2 x3 x4 y0 f_open f_laid f_places f_changed hw H locs ls hH hl
  unfold wX57_derived_99 at hw
  refine lv_istore (lv' := [(6, .int y0), (0, .ref (ad 0)), (1, .int x1), (2, .int x2), (3, .int x3), (4, .long x4)]) hx hb dX57_derived_99 hl (by decide) rfl (fun ls hl => ?_)
  refine lv_iload hx hb dX57_derived_101 (lv_at hl 0 rfl) ?_
  refine lv_if_eq (tgt := 119) hx hb dX57_derived_103 (by decide) (fun c_20 => ?_) (fun c_20 => ?_)
  · have hw := hw.1 (z_eq (rfl : y0.toInt = _) (rfl : (0 : Int32).toInt = 0) c_20)
    refine lv_aload_n hx hb dX57_derived_119 rfl (lv_at hl 1 rfl) ?_
    refine lv_iconst (v := 3) hx hb dX57_derived_120 (by decide) ?_
    refine lv_iload_n hx hb dX57_derived_121 rfl (lv_at hl 2 rfl) ?_
    refine lv_iload_n hx hb dX57_derived_122 rfl (lv_at hl 4 rfl) ?_
    refine lv_lload hx hb dX57_derived_123 (lv_at hl 5 rfl) ?_
    refine k_i0 hH (k_runV (As := [.int 3, .int x1, .int x3, .long x4]) (rest := []) X hH.1 hH.2.1 X.2.2.2 (walkX57_lay hc (x1 := 3) (x2 := x1) (x3 := x3) (x4 := x4) (f_count := f_count) (f_runs := f_runs) (f_full := f_full) (f_disk := f_disk) (f_later := f_later) (f_open := f_open) (f_laid := f_laid) (f_places := f_places) (f_changed := f_changed) (f_targets := f_targets) (f_bytes := f_bytes) (f_first := f_first) (f_behind := f_behind) (f_numbers := f_numbers) (f_sectors := f_sectors) (f_oldest := f_oldest) (f_newest := f_newest) (f_keptNumbers := f_keptNumbers) (f_keptSectors := f_keptSectors) (f_kept := f_kept) (f_thrown := f_thrown) (f_head := f_head) hw) (cwV 4 X.1.2.2.2.2 gX57_146 rfl rfl rfl hX57_lay ⟨Nat.le_of_ble_eq_true rfl, Nat.le_of_ble_eq_true rfl⟩) hc (q0 := 0) rfl rfl hl.1 rfl (Nat.le_of_ble_eq_true rfl) dX57_derived_125 ⟨Nat.le_refl 0, Nat.le_refl 0⟩) (fun r_21 u H locs hw hH => ?_)
    obtain ⟨f_open_22, f_laid_23, f_places_24, f_changed_25⟩ := u
    have hH : kH (dC, dI) cl A s.heap H locs (wX57 ci ad d f_count f_runs f_full f_disk f_later f_open_22 f_laid_23 f_places_24 f_changed_25 f_targets f_bytes f_first f_behind f_numbers f_sectors f_oldest f_newest f_keptNumbers f_keptSectors f_kept f_thrown f_head) := hH
    refine lv_bipush (v := (-4)) hx hb dX57_derived_128 (by decide) ?_
    refine lv_icmp_ne (tgt := 138) hx hb dX57_derived_130 (by decide) (fun c_26 => ?_) (fun c_26 => ?_)
    · have hw := hw.2 (z_ne (rfl : r_21.toInt = _) (rfl : ((-4) : Int32).toInt = (-4)) c_26)
      refine lv_iconst (v := 1) hx hb dX57_derived_138 (by decide) ?_
      exact k_iret (v := 1) X hH (f_open_22, f_laid_23, f_places_24, f_changed_25) hw rfl rfl dX57_derived_139
    · have hw := hw.1 (z_eq (rfl : r_21.toInt = _) (rfl : ((-4) : Int32).toInt = (-4)) c_26)
      refine lv_bipush (v := (-4)) hx hb dX57_derived_133 (by decide) ?_
      refine lv_goto (tgt := 139) hx hb dX57_derived_135 (by decide) ?_
      exact k_iret (v := (-4)) X hH (f_open_22, f_laid_23, f_places_24, f_changed_25) hw rfl rfl dX57_derived_139
  · have hw := hw.2 (z_neq (rfl : y0.toInt = _) (rfl : (0 : Int32).toInt = 0) c_20)
    refine lv_aload_n hx hb dX57_derived_106 rfl (lv_at hl 1 rfl) ?_
    refine lv_iload_n hx hb dX57_derived_107 rfl (lv_at hl 3 rfl) ?_
    refine k_l0 hH (k_runV (As := [.int x2]) (rest := []) X hH.1 hH.2.1 X.2.2.2 (walkX57_valueOf hc (x1 := x2) (f_count := f_count) (f_runs := f_runs) (f_full := f_full) (f_disk := f_disk) (f_later := f_later) (f_open := f_open) (f_laid := f_laid) (f_places := f_places) (f_changed := f_changed) (f_targets := f_targets) (f_bytes := f_bytes) (f_first := f_first) (f_behind := f_behind) (f_numbers := f_numbers) (f_sectors := f_sectors) (f_oldest := f_oldest) (f_newest := f_newest) (f_keptNumbers := f_keptNumbers) (f_keptSectors := f_keptSectors) (f_kept := f_kept) (f_thrown := f_thrown) (f_head := f_head) hw) (cwV 1 X.1.2.2.2.2 gX57_138 rfl rfl rfl hX57_valueOf ⟨Nat.le_of_ble_eq_true rfl, Nat.le_of_ble_eq_true rfl⟩) hc (q0 := 0) rfl rfl hl.1 rfl (Nat.le_of_ble_eq_true rfl) dX57_derived_108 ⟨Nat.le_refl 0, Nat.le_refl 0⟩) (fun r_27 _ H locs hw hH => ?_)
    have hH : kH (dC, dI) cl A s.heap H locs (wX57 ci ad d f_count f_runs f_full f_disk f_later f_open f_laid f_places f_changed f_targets f_bytes f_first f_behind f_numbers f_sectors f_oldest f_newest f_keptNumbers f_keptSectors f_kept f_thrown f_head) := hH
    refine lv_lload hx hb dX57_derived_111 (lv_at hl 5 rfl) ?_
    refine W.lcmp hx hb dX57_derived_113 ?_
    refine lv_if_ne (tgt := 119) hx hb dX57_derived_114 (by decide) (fun c_28 => ?_) (fun c_28 => ?_)
    · have hw := hw.2 (zL_ne (rfl : r_27.toInt = _) (rfl : x4.toInt = _) (k_lc_ne.mp c_28))
      refine lv_aload_n hx hb dX57_derived_119 rfl (lv_at hl 1 rfl) ?_
      refine lv_iconst (v := 3) hx hb dX57_derived_120 (by decide) ?_
      refine lv_iload_n hx hb dX57_derived_121 rfl (lv_at hl 2 rfl) ?_
      refine lv_iload_n hx hb dX57_derived_122 rfl (lv_at hl 4 rfl) ?_
      refine lv_lload hx hb dX57_derived_123 (lv_at hl 5 rfl) ?_
      refine k_i0 hH (k_runV (As := [.int 3, .int x1, .int x3, .long x4]) (rest := []) X hH.1 hH.2.1 X.2.2.2 (walkX57_lay hc (x1 := 3) (x2 := x1) (x3 := x3) (x4 := x4) (f_count := f_count) (f_runs := f_runs) (f_full := f_full) (f_disk := f_disk) (f_later := f_later) (f_open := f_open) (f_laid := f_laid) (f_places := f_places) (f_changed := f_changed) (f_targets := f_targets) (f_bytes := f_bytes) (f_first := f_first) (f_behind := f_behind) (f_numbers := f_numbers) (f_sectors := f_sectors) (f_oldest := f_oldest) (f_newest := f_newest) (f_keptNumbers := f_keptNumbers) (f_keptSectors := f_keptSectors) (f_kept := f_kept) (f_thrown := f_thrown) (f_head := f_head) hw) (cwV 4 X.1.2.2.2.2 gX57_146 rfl rfl rfl hX57_lay ⟨Nat.le_of_ble_eq_true rfl, Nat.le_of_ble_eq_true rfl⟩) hc (q0 := 0) rfl rfl hl.1 rfl (Nat.le_of_ble_eq_true rfl) dX57_derived_125 ⟨Nat.le_refl 0, Nat.le_refl 0⟩) (fun r_29 u H locs hw hH => ?_)
      obtain ⟨f_open_30, f_laid_31, f_places_32, f_changed_33⟩ := u
      have hH : kH (dC, dI) cl A s.heap H locs (wX57 ci ad d f_count f_runs f_full f_disk f_later f_open_30 f_laid_31 f_places_32 f_changed_33 f_targets f_bytes f_first f_behind f_numbers f_sectors f_oldest f_newest f_keptNumbers f_keptSectors f_kept f_thrown f_head) := hH
      refine lv_bipush (v := (-4)) hx hb dX57_derived_128 (by decide) ?_
      refine lv_icmp_ne (tgt := 138) hx hb dX57_derived_130 (by decide) (fun c_34 => ?_) (fun c_34 => ?_)
      · have hw := hw.2 (z_ne (rfl : r_29.toInt = _) (rfl : ((-4) : Int32).toInt = (-4)) c_34)
        refine lv_iconst (v := 1) hx hb dX57_derived_138 (by decide) ?_
        exact k_iret (v := 1) X hH (f_open_30, f_laid_31, f_places_32, f_changed_33) hw rfl rfl dX57_derived_139
      · have hw := hw.1 (z_eq (rfl : r_29.toInt = _) (rfl : ((-4) : Int32).toInt = (-4)) c_34)
        refine lv_bipush (v := (-4)) hx hb dX57_derived_133 (by decide) ?_
        refine lv_goto (tgt := 139) hx hb dX57_derived_135 (by decide) ?_
        exact k_iret (v := (-4)) X hH (f_open_30, f_laid_31, f_places_32, f_changed_33) hw rfl rfl dX57_derived_139
    · have hw := hw.1 (zL_eq (rfl : r_27.toInt = _) (rfl : x4.toInt = _) (k_lc_eq.mp c_28))
      refine lv_iconst (v := 0) hx hb dX57_derived_117 (by decide) ?_
      exact k_iret (v := 0) X hH (f_open, f_laid, f_places, f_changed) hw rfl rfl dX57_derived_118
set_option maxHeartbeats 4000000 in
theorem walkX57_derived {l : Launch} {dC : Nat → ClassId} {dI : Nat → Nat → Nat} {cl : List vw_C} {ci : Nat} (hc : cl[ci]? = some (RX57, TX57, 22)) {ad : Nat → Nat} {d : Nat → ClassId} {sz : Nat} {f_count : Int32} {f_runs : Int32} {f_full : Int32} {f_disk : Nat → Int32} {f_later : Nat → Int32} {f_open : Nat → Int32} {f_laid : Nat → Int32} {f_places : Nat → Int32} {f_changed : Int32} {f_targets : Nat → Int32} {f_bytes : Nat → Int32} {f_first : Int32} {f_behind : Int32} {f_numbers : Nat → Int32} {f_sectors : Nat → Int64} {f_oldest : Int32} {f_newest : Int32} {f_keptNumbers : Nat → Int32} {f_keptSectors : Nat → Int64} {f_kept : Int32} {f_thrown : Int32} {f_head : Nat → Int32} {x1 : Int32} {post : Int → (Int → Int) → (Int → Int) → (Int → Int) → Int → Prop} (hw : wpX57_derived post f_count.toInt f_runs.toInt f_full.toInt (zF f_later) (zF f_open) (zF f_laid) (zF f_places) f_changed.toInt (zF f_targets) f_first.toInt f_behind.toInt (zG f_sectors) f_oldest.toInt f_newest.toInt (zG f_keptSectors) f_kept.toInt x1.toInt) :
    Met l yX57_derived (ws_ yX57_derived cX57_derived 7 (some .int)) ({ frames := 4, cells := 0, slots := 0, locals := 94 } : Room) (kPc (dC, dI) cl (tX57 d) [.ref (ad 0), .int x1] sz (wX57 ci ad d f_count f_runs f_full f_disk f_later f_open f_laid f_places f_changed f_targets f_bytes f_first f_behind f_numbers f_sectors f_oldest f_newest f_keptNumbers f_keptSectors f_kept f_thrown f_head)) (va_Qi (fun (r : Int32) (u : (Nat → Int32) × (Nat → Int32) × (Nat → Int32) × Int32) => post r.toInt (zF (u.1)) (zF (u.2.1)) (zF (u.2.2.1)) (u.2.2.2).toInt) (kB (dC, dI) cl (tX57 d) (va_A (wX57 ci ad d f_count f_runs f_full f_disk f_later f_open f_laid f_places f_changed f_targets f_bytes f_first f_behind f_numbers f_sectors f_oldest f_newest f_keptNumbers f_keptSectors f_kept f_thrown f_head) sz) (fun u : (Nat → Int32) × (Nat → Int32) × (Nat → Int32) × Int32 => (wX57 ci ad d f_count f_runs f_full f_disk f_later (u.1) (u.2.1) (u.2.2.1) (u.2.2.2) f_targets f_bytes f_first f_behind f_numbers f_sectors f_oldest f_newest f_keptNumbers f_keptSectors f_kept f_thrown f_head))) (va_A (wX57 ci ad d f_count f_runs f_full f_disk f_later f_open f_laid f_places f_changed f_targets f_bytes f_first f_behind f_numbers f_sectors f_oldest f_newest f_keptNumbers f_keptSectors f_kept f_thrown f_head) sz)) 0 0 (va_A (wX57 ci ad d f_count f_runs f_full f_disk f_later f_open f_laid f_places f_changed f_targets f_bytes f_first f_behind f_numbers f_sectors f_oldest f_newest f_keptNumbers f_keptSectors f_kept f_thrown f_head) sz) := by
  refine k_enter (by decide) (Nat.le_of_ble_eq_true rfl) ?_
  intro p e s m below meth c ls X hsz hH hl
  subst hsz
  generalize va_A (wX57 ci ad d f_count f_runs f_full f_disk f_later f_open f_laid f_places f_changed f_targets f_bytes f_first f_behind f_numbers f_sectors f_oldest f_newest f_keptNumbers f_keptSectors f_kept f_thrown f_head) s.heap.size = A at hH ⊢
  have hx := X.1.1
  have hb := X.1.2.1
  have hl : lv_has ls 7 [(0, .ref (ad 0)), (1, .int x1)] := hl
  unfold wpX57_derived at hw
  refine lv_aload_n hx hb dX57_derived_0 rfl (lv_at hl 0 rfl) ?_
  refine k_get X hH in_X57 0 rfl hc 1 (by decide) q6791 rfl dX57_derived_1 ?_
  refine lv_if_ne (tgt := 10) hx hb dX57_derived_4 (by decide) (fun c_1 => ?_) (fun c_1 => ?_)
  · have hw := hw.2 (z_ne (rfl : f_runs.toInt = _) (rfl : (0 : Int32).toInt = 0) c_1)
    refine lv_aload_n hx hb dX57_derived_10 rfl (lv_at hl 0 rfl) ?_
    refine lv_iload_n hx hb dX57_derived_11 rfl (lv_at hl 1 rfl) ?_
    refine k_i0 hH (k_runV (As := [.int x1]) (rest := []) X hH.1 hH.2.1 X.2.2.2 (walkX57_isPage hc (x1 := x1) (f_count := f_count) (f_runs := f_runs) (f_full := f_full) (f_disk := f_disk) (f_later := f_later) (f_open := f_open) (f_laid := f_laid) (f_places := f_places) (f_changed := f_changed) (f_targets := f_targets) (f_bytes := f_bytes) (f_first := f_first) (f_behind := f_behind) (f_numbers := f_numbers) (f_sectors := f_sectors) (f_oldest := f_oldest) (f_newest := f_newest) (f_keptNumbers := f_keptNumbers) (f_keptSectors := f_keptSectors) (f_kept := f_kept) (f_thrown := f_thrown) (f_head := f_head) hw) (cwV 1 X.1.2.2.2.2 gX57_128 rfl rfl rfl hX57_isPage ⟨Nat.le_of_ble_eq_true rfl, Nat.le_of_ble_eq_true rfl⟩) hc (q0 := 0) rfl rfl hl.1 rfl (Nat.le_of_ble_eq_true rfl) dX57_derived_12 ⟨Nat.le_refl 0, Nat.le_refl 0⟩) (fun r_2 _ H locs hw hH => ?_)
    have hH : kH (dC, dI) cl A s.heap H locs (wX57 ci ad d f_count f_runs f_full f_disk f_later f_open f_laid f_places f_changed f_targets f_bytes f_first f_behind f_numbers f_sectors f_oldest f_newest f_keptNumbers f_keptSectors f_kept f_thrown f_head) := hH
    refine lv_if_eq (tgt := 32) hx hb dX57_derived_15 (by decide) (fun c_3 => ?_) (fun c_3 => ?_)
    · have hw := hw.1 (z_eq (rfl : r_2.toInt = _) (rfl : (0 : Int32).toInt = 0) c_3)
      refine lv_iconst (v := (-1)) hx hb dX57_derived_32 (by decide) ?_
      exact k_iret (v := (-1)) X hH (f_open, f_laid, f_places, f_changed) hw rfl rfl dX57_derived_33
    · have hw := hw.2 (z_neq (rfl : r_2.toInt = _) (rfl : (0 : Int32).toInt = 0) c_3)
      refine lv_aload_n hx hb dX57_derived_18 rfl (lv_at hl 0 rfl) ?_
      refine lv_aload_n hx hb dX57_derived_19 rfl (lv_at hl 0 rfl) ?_
      refine k_get X hH in_X57 0 rfl hc 7 (by decide) q6797 rfl dX57_derived_20 ?_
      refine lv_iload_n hx hb dX57_derived_23 rfl (lv_at hl 1 rfl) ?_
      have hq_4 := hw.1
      have hw := hw.2
      refine k_iald X hH 5 4 rfl rfl (z_in (rfl : x1.toInt = _) hq_4) dX57_derived_24 ?_
      have e_5 := z_ld (f := f_places) (rfl : x1.toInt = _) hq_4.1
      refine k_i0 hH (k_runV (As := [.int (f_places x1.toNatClampNeg)]) (rest := []) X hH.1 hH.2.1 X.2.2.2 (walkX57_kindOf hc (x1 := (f_places x1.toNatClampNeg)) (f_count := f_count) (f_runs := f_runs) (f_full := f_full) (f_disk := f_disk) (f_later := f_later) (f_open := f_open) (f_laid := f_laid) (f_places := f_places) (f_changed := f_changed) (f_targets := f_targets) (f_bytes := f_bytes) (f_first := f_first) (f_behind := f_behind) (f_numbers := f_numbers) (f_sectors := f_sectors) (f_oldest := f_oldest) (f_newest := f_newest) (f_keptNumbers := f_keptNumbers) (f_keptSectors := f_keptSectors) (f_kept := f_kept) (f_thrown := f_thrown) (f_head := f_head) (by rw [show (f_places x1.toNatClampNeg : Int32).toInt = _ from e_5]; exact hw)) (cwV 1 X.1.2.2.2.2 gX57_131 rfl rfl rfl hX57_kindOf ⟨Nat.le_of_ble_eq_true rfl, Nat.le_of_ble_eq_true rfl⟩) hc (q0 := 0) rfl rfl hl.1 rfl (Nat.le_of_ble_eq_true rfl) dX57_derived_25 ⟨Nat.le_refl 0, Nat.le_refl 0⟩) (fun r_6 _ H locs hw hH => ?_)
      have hH : kH (dC, dI) cl A s.heap H locs (wX57 ci ad d f_count f_runs f_full f_disk f_later f_open f_laid f_places f_changed f_targets f_bytes f_first f_behind f_numbers f_sectors f_oldest f_newest f_keptNumbers f_keptSectors f_kept f_thrown f_head) := hH
      refine lv_iconst (v := 3) hx hb dX57_derived_28 (by decide) ?_
      refine lv_icmp_eq (tgt := 34) hx hb dX57_derived_29 (by decide) (fun c_7 => ?_) (fun c_7 => ?_)
      · have hw := hw.1 (z_eq (rfl : r_6.toInt = _) (rfl : (3 : Int32).toInt = 3) c_7)
        refine lv_aload_n hx hb dX57_derived_34 rfl (lv_at hl 0 rfl) ?_
        refine k_get X hH in_X57 0 rfl hc 7 (by decide) q6797 rfl dX57_derived_35 ?_
        refine lv_iload_n hx hb dX57_derived_38 rfl (lv_at hl 1 rfl) ?_
        refine k_iald X hH 5 4 rfl rfl (z_in (rfl : x1.toInt = _) hq_4) dX57_derived_39 ?_
        have e_8 := z_ld (f := f_places) (rfl : x1.toInt = _) hq_4.1
        refine lv_topi (fun x2_9 ex2_9 => ?_)
        have hw := hw x2_9.toInt (by rw [ex2_9]; exact e_8)
        refine lv_istore_n (lv' := [(2, .int x2_9), (0, .ref (ad 0)), (1, .int x1)]) hx hb dX57_derived_40 rfl hl (by decide) rfl (fun ls hl => ?_)
        refine lv_aload_n hx hb dX57_derived_41 rfl (lv_at hl 1 rfl) ?_
        refine lv_iload_n hx hb dX57_derived_42 rfl (lv_at hl 0 rfl) ?_
        refine lv_bipush (v := 6) hx hb dX57_derived_43 (by decide) ?_
        refine k_i0 hH (k_runV (As := [.int x2_9, .int 6]) (rest := []) X hH.1 hH.2.1 X.2.2.2 (walkX57_byteOf hc (x1 := x2_9) (x2 := 6) (f_count := f_count) (f_runs := f_runs) (f_full := f_full) (f_disk := f_disk) (f_later := f_later) (f_open := f_open) (f_laid := f_laid) (f_places := f_places) (f_changed := f_changed) (f_targets := f_targets) (f_bytes := f_bytes) (f_first := f_first) (f_behind := f_behind) (f_numbers := f_numbers) (f_sectors := f_sectors) (f_oldest := f_oldest) (f_newest := f_newest) (f_keptNumbers := f_keptNumbers) (f_keptSectors := f_keptSectors) (f_kept := f_kept) (f_thrown := f_thrown) (f_head := f_head) hw) (cwV 2 X.1.2.2.2.2 gX57_97 rfl rfl rfl hX57_byteOf ⟨Nat.le_of_ble_eq_true rfl, Nat.le_of_ble_eq_true rfl⟩) hc (q0 := 0) rfl rfl hl.1 rfl (Nat.le_of_ble_eq_true rfl) dX57_derived_45 ⟨Nat.le_refl 0, Nat.le_refl 0⟩) (fun r_10 _ H locs hw hH => ?_)
        have hH : kH (dC, dI) cl A s.heap H locs (wX57 ci ad d f_count f_runs f_full f_disk f_later f_open f_laid f_places f_changed f_targets f_bytes f_first f_behind f_numbers f_sectors f_oldest f_newest f_keptNumbers f_keptSectors f_kept f_thrown f_head) := hH
        refine lv_istore_n (lv' := [(3, .int r_10), (2, .int x2_9), (0, .ref (ad 0)), (1, .int x1)]) hx hb dX57_derived_48 rfl hl (by decide) rfl (fun ls hl => ?_)
        refine lv_aload_n hx hb dX57_derived_49 rfl (lv_at hl 2 rfl) ?_
        refine lv_iload_n hx hb dX57_derived_50 rfl (lv_at hl 0 rfl) ?_
        refine k_i0 hH (k_runV (As := [.int r_10]) (rest := []) X hH.1 hH.2.1 X.2.2.2 (walkX57_isPage hc (x1 := r_10) (f_count := f_count) (f_runs := f_runs) (f_full := f_full) (f_disk := f_disk) (f_later := f_later) (f_open := f_open) (f_laid := f_laid) (f_places := f_places) (f_changed := f_changed) (f_targets := f_targets) (f_bytes := f_bytes) (f_first := f_first) (f_behind := f_behind) (f_numbers := f_numbers) (f_sectors := f_sectors) (f_oldest := f_oldest) (f_newest := f_newest) (f_keptNumbers := f_keptNumbers) (f_keptSectors := f_keptSectors) (f_kept := f_kept) (f_thrown := f_thrown) (f_head := f_head) hw) (cwV 1 X.1.2.2.2.2 gX57_128 rfl rfl rfl hX57_isPage ⟨Nat.le_of_ble_eq_true rfl, Nat.le_of_ble_eq_true rfl⟩) hc (q0 := 0) rfl rfl hl.1 rfl (Nat.le_of_ble_eq_true rfl) dX57_derived_51 ⟨Nat.le_refl 0, Nat.le_refl 0⟩) (fun r_11 _ H locs hw hH => ?_)
        have hH : kH (dC, dI) cl A s.heap H locs (wX57 ci ad d f_count f_runs f_full f_disk f_later f_open f_laid f_places f_changed f_targets f_bytes f_first f_behind f_numbers f_sectors f_oldest f_newest f_keptNumbers f_keptSectors f_kept f_thrown f_head) := hH
        refine lv_if_ne (tgt := 59) hx hb dX57_derived_54 (by decide) (fun c_12 => ?_) (fun c_12 => ?_)
        · have hw := hw.2 (z_ne (rfl : r_11.toInt = _) (rfl : (0 : Int32).toInt = 0) c_12)
          refine lv_aload_n hx hb dX57_derived_59 rfl (lv_at hl 2 rfl) ?_
          refine lv_aload_n hx hb dX57_derived_60 rfl (lv_at hl 2 rfl) ?_
          refine k_get X hH in_X57 0 rfl hc 7 (by decide) q6797 rfl dX57_derived_61 ?_
          refine lv_iload_n hx hb dX57_derived_64 rfl (lv_at hl 0 rfl) ?_
          have hq_13 := hw.1
          have hw := hw.2
          refine k_iald X hH 5 4 rfl rfl (z_in (rfl : r_10.toInt = _) hq_13) dX57_derived_65 ?_
          have e_14 := z_ld (f := f_places) (rfl : r_10.toInt = _) hq_13.1
          refine k_l0 hH (k_runV (As := [.int (f_places r_10.toNatClampNeg)]) (rest := []) X hH.1 hH.2.1 X.2.2.2 (walkX57_valueOf hc (x1 := (f_places r_10.toNatClampNeg)) (f_count := f_count) (f_runs := f_runs) (f_full := f_full) (f_disk := f_disk) (f_later := f_later) (f_open := f_open) (f_laid := f_laid) (f_places := f_places) (f_changed := f_changed) (f_targets := f_targets) (f_bytes := f_bytes) (f_first := f_first) (f_behind := f_behind) (f_numbers := f_numbers) (f_sectors := f_sectors) (f_oldest := f_oldest) (f_newest := f_newest) (f_keptNumbers := f_keptNumbers) (f_keptSectors := f_keptSectors) (f_kept := f_kept) (f_thrown := f_thrown) (f_head := f_head) (by rw [show (f_places r_10.toNatClampNeg : Int32).toInt = _ from e_14]; exact hw)) (cwV 1 X.1.2.2.2.2 gX57_138 rfl rfl rfl hX57_valueOf ⟨Nat.le_of_ble_eq_true rfl, Nat.le_of_ble_eq_true rfl⟩) hc (q0 := 0) rfl rfl hl.1 rfl (Nat.le_of_ble_eq_true rfl) dX57_derived_66 ⟨Nat.le_refl 0, Nat.le_refl 0⟩) (fun r_15 _ H locs hw hH => ?_)
          have hH : kH (dC, dI) cl A s.heap H locs (wX57 ci ad d f_count f_runs f_full f_disk f_later f_open f_laid f_places f_changed f_targets f_bytes f_first f_behind f_numbers f_sectors f_oldest f_newest f_keptNumbers f_keptSectors f_kept f_thrown f_head) := hH
          refine k_l0 hH (k_runS (As := [.long r_15]) (rest := []) X hH.1 hH.2.1 X.2.2.2 (walkX57_turned hc (x0 := r_15) (f_count := f_count) (f_runs := f_runs) (f_full := f_full) (f_disk := f_disk) (f_later := f_later) (f_open := f_open) (f_laid := f_laid) (f_places := f_places) (f_changed := f_changed) (f_targets := f_targets) (f_bytes := f_bytes) (f_first := f_first) (f_behind := f_behind) (f_numbers := f_numbers) (f_sectors := f_sectors) (f_oldest := f_oldest) (f_newest := f_newest) (f_keptNumbers := f_keptNumbers) (f_keptSectors := f_keptSectors) (f_kept := f_kept) (f_thrown := f_thrown) (f_head := f_head) hw) (va_cwS 1 X.1.2.2.2.2 gX57_142 rfl rfl rfl hX57_turned ⟨Nat.le_of_ble_eq_true rfl, Nat.le_of_ble_eq_true rfl⟩) rfl hl.1 rfl (Nat.le_of_ble_eq_true rfl) dX57_derived_69 ⟨Nat.le_refl 0, Nat.le_refl 0⟩) (fun r_16 _ H locs hw hH => ?_)
          have hH : kH (dC, dI) cl A s.heap H locs (wX57 ci ad d f_count f_runs f_full f_disk f_later f_open f_laid f_places f_changed f_targets f_bytes f_first f_behind f_numbers f_sectors f_oldest f_newest f_keptNumbers f_keptSectors f_kept f_thrown f_head) := hH
          refine lv_lstore (lv' := [(4, .long r_16), (3, .int r_10), (2, .int x2_9), (0, .ref (ad 0)), (1, .int x1)]) hx hb dX57_derived_72 hl (by decide) rfl (fun ls hl => ?_)
          refine lv_aload_n hx hb dX57_derived_74 rfl (lv_at hl 3 rfl) ?_
          refine k_get X hH in_X57 0 rfl hc 6 (by decide) q6796 rfl dX57_derived_75 ?_
          refine lv_iload_n hx hb dX57_derived_78 rfl (lv_at hl 2 rfl) ?_
          have hq_17 := hw.1
          have hw := hw.2
          refine k_zald X hH 4 3 rfl rfl (z_in (rfl : x2_9.toInt = _) hq_17) dX57_derived_79 ?_
          have e_18 := z_ld (f := f_laid) (rfl : x2_9.toInt = _) hq_17.1
          refine lv_if_ne (tgt := 94) hx hb dX57_derived_80 (by decide) (fun c_19 => ?_) (fun c_19 => ?_)
          · have hw := hw.2 (z_ne e_18 (rfl : (0 : Int32).toInt = 0) c_19)
            refine lv_iconst (v := 1) hx hb dX57_derived_94 (by decide) ?_
            refine lv_goto (tgt := 99) hx hb dX57_derived_95 (by decide) ?_
            exact atX57_derived_99 hc X x1 x2_9 r_10 r_16 1 f_open f_laid f_places f_changed hw _ _ ls hH (lv_sub hl [3, 4, 2, 1, 0] rfl)
          · have hw := hw.1 (z_eq e_18 (rfl : (0 : Int32).toInt = 0) c_19)
            refine lv_aload_n hx hb dX57_derived_83 rfl (lv_at hl 3 rfl) ?_
            refine k_get X hH in_X57 0 rfl hc 4 (by decide) q6794 rfl dX57_derived_84 ?_
            refine lv_iload_n hx hb dX57_derived_87 rfl (lv_at hl 2 rfl) ?_
            refine k_i0 hH (k_runS (As := [.ref (ad 2), .int x2_9]) (rest := []) X hH.1 hH.2.1 X.2.2.2 (walkX57_isRight_later hc (x1 := x2_9) (f_count := f_count) (f_runs := f_runs) (f_full := f_full) (f_disk := f_disk) (f_later := f_later) (f_open := f_open) (f_laid := f_laid) (f_places := f_places) (f_changed := f_changed) (f_targets := f_targets) (f_bytes := f_bytes) (f_first := f_first) (f_behind := f_behind) (f_numbers := f_numbers) (f_sectors := f_sectors) (f_oldest := f_oldest) (f_newest := f_newest) (f_keptNumbers := f_keptNumbers) (f_keptSectors := f_keptSectors) (f_kept := f_kept) (f_thrown := f_thrown) (f_head := f_head) hw) (va_cwS 2 X.1.2.2.2.2 gX57_150 rfl rfl rfl hX57_isRight ⟨Nat.le_of_ble_eq_true rfl, Nat.le_of_ble_eq_true rfl⟩) rfl hl.1 rfl (Nat.le_of_ble_eq_true rfl) dX57_derived_88 ⟨Nat.le_refl 0, Nat.le_refl 0⟩) (fun r_35 _ H locs hw hH => ?_)
            have hH : kH (dC, dI) cl A s.heap H locs (wX57 ci ad d f_count f_runs f_full f_disk f_later f_open f_laid f_places f_changed f_targets f_bytes f_first f_behind f_numbers f_sectors f_oldest f_newest f_keptNumbers f_keptSectors f_kept f_thrown f_head) := hH
            refine lv_if_eq (tgt := 98) hx hb dX57_derived_91 (by decide) (fun c_36 => ?_) (fun c_36 => ?_)
            · have hw := hw.1 (z_eq (rfl : r_35.toInt = _) (rfl : (0 : Int32).toInt = 0) c_36)
              refine lv_iconst (v := 0) hx hb dX57_derived_98 (by decide) ?_
              exact atX57_derived_99 hc X x1 x2_9 r_10 r_16 0 f_open f_laid f_places f_changed hw _ _ ls hH (lv_sub hl [3, 4, 2, 1, 0] rfl)
            · have hw := hw.2 (z_neq (rfl : r_35.toInt = _) (rfl : (0 : Int32).toInt = 0) c_36)
              refine lv_iconst (v := 1) hx hb dX57_derived_94 (by decide) ?_
              refine lv_goto (tgt := 99) hx hb dX57_derived_95 (by decide) ?_
              exact atX57_derived_99 hc X x1 x2_9 r_10 r_16 1 f_open f_laid f_places f_changed hw _ _ ls hH (lv_sub hl [3, 4, 2, 1, 0] rfl)
        · have hw := hw.1 (z_eq (rfl : r_11.toInt = _) (rfl : (0 : Int32).toInt = 0) c_12)
          refine lv_iconst (v := 0) hx hb dX57_derived_57 (by decide) ?_
          exact k_iret (v := 0) X hH (f_open, f_laid, f_places, f_changed) hw rfl rfl dX57_derived_58
      · have hw := hw.2 (z_neq (rfl : r_6.toInt = _) (rfl : (3 : Int32).toInt = 3) c_7)
        refine lv_iconst (v := (-1)) hx hb dX57_derived_32 (by decide) ?_
        exact k_iret (v := (-1)) X hH (f_open, f_laid, f_places, f_changed) hw rfl rfl dX57_derived_33
  · have hw := hw.1 (z_eq (rfl : f_runs.toInt = _) (rfl : (0 : Int32).toInt = 0) c_1)
    refine lv_bipush (v := (-3)) hx hb dX57_derived_7 (by decide) ?_
    exact k_iret (v := (-3)) X hH (f_open, f_laid, f_places, f_changed) hw rfl rfl dX57_derived_9
set_option maxHeartbeats 4000000 in
theorem walkX57_full {l : Launch} {dC : Nat → ClassId} {dI : Nat → Nat → Nat} {cl : List vw_C} {ci : Nat} (hc : cl[ci]? = some (RX57, TX57, 22)) {ad : Nat → Nat} {d : Nat → ClassId} {sz : Nat} {f_count : Int32} {f_runs : Int32} {f_full : Int32} {f_disk : Nat → Int32} {f_later : Nat → Int32} {f_open : Nat → Int32} {f_laid : Nat → Int32} {f_places : Nat → Int32} {f_changed : Int32} {f_targets : Nat → Int32} {f_bytes : Nat → Int32} {f_first : Int32} {f_behind : Int32} {f_numbers : Nat → Int32} {f_sectors : Nat → Int64} {f_oldest : Int32} {f_newest : Int32} {f_keptNumbers : Nat → Int32} {f_keptSectors : Nat → Int64} {f_kept : Int32} {f_thrown : Int32} {f_head : Nat → Int32} {x1 : Int32} {post : Int → Int → Prop} (hw : wpX57_full post f_full.toInt x1.toInt) :
    Met l yX57_full (ws_ yX57_full cX57_full 3 (some .boolean)) ({ frames := 0, cells := 0, slots := 0, locals := 0 } : Room) (kPc (dC, dI) cl (tX57 d) [.ref (ad 0), .int x1] sz (wX57 ci ad d f_count f_runs f_full f_disk f_later f_open f_laid f_places f_changed f_targets f_bytes f_first f_behind f_numbers f_sectors f_oldest f_newest f_keptNumbers f_keptSectors f_kept f_thrown f_head)) (va_Qi (fun (r : Int32) (u : Int32) => post r.toInt (u).toInt) (kB (dC, dI) cl (tX57 d) (va_A (wX57 ci ad d f_count f_runs f_full f_disk f_later f_open f_laid f_places f_changed f_targets f_bytes f_first f_behind f_numbers f_sectors f_oldest f_newest f_keptNumbers f_keptSectors f_kept f_thrown f_head) sz) (fun u : Int32 => (wX57 ci ad d f_count f_runs (u) f_disk f_later f_open f_laid f_places f_changed f_targets f_bytes f_first f_behind f_numbers f_sectors f_oldest f_newest f_keptNumbers f_keptSectors f_kept f_thrown f_head))) (va_A (wX57 ci ad d f_count f_runs f_full f_disk f_later f_open f_laid f_places f_changed f_targets f_bytes f_first f_behind f_numbers f_sectors f_oldest f_newest f_keptNumbers f_keptSectors f_kept f_thrown f_head) sz)) 0 0 (va_A (wX57 ci ad d f_count f_runs f_full f_disk f_later f_open f_laid f_places f_changed f_targets f_bytes f_first f_behind f_numbers f_sectors f_oldest f_newest f_keptNumbers f_keptSectors f_kept f_thrown f_head) sz) := by
  refine k_enter (by decide) (Nat.le_of_ble_eq_true rfl) ?_
  intro p e s m below meth c ls X hsz hH hl
  subst hsz
  generalize va_A (wX57 ci ad d f_count f_runs f_full f_disk f_later f_open f_laid f_places f_changed f_targets f_bytes f_first f_behind f_numbers f_sectors f_oldest f_newest f_keptNumbers f_keptSectors f_kept f_thrown f_head) s.heap.size = A at hH ⊢
  have hx := X.1.1
  have hb := X.1.2.1
  have hl : lv_has ls 3 [(0, .ref (ad 0)), (1, .int x1)] := hl
  unfold wpX57_full at hw
  refine lv_aload_n hx hb dX57_full_0 rfl (lv_at hl 0 rfl) ?_
  refine k_get X hH in_X57 0 rfl hc 2 (by decide) q6792 rfl dX57_full_1 ?_
  refine lv_istore_n (lv' := [(2, .int f_full), (0, .ref (ad 0)), (1, .int x1)]) hx hb dX57_full_4 rfl hl (by decide) rfl (fun ls hl => ?_)
  refine lv_aload_n hx hb dX57_full_5 rfl (lv_at hl 1 rfl) ?_
  refine lv_iload_n hx hb dX57_full_6 rfl (lv_at hl 2 rfl) ?_
  have hq_1 := hw.1
  have hw := hw.2
  refine k_put X hH in_X57 tyX57_ok nmX57 0 rfl hc 2 (by decide) q6792 rfl (ty := .boolean) rfl (k_zn (z_bool hq_1)) (k_zf (z_bool hq_1)) (Nat.le_of_ble_eq_true rfl) dX57_full_7 (ws1 := (wX57 ci ad d f_count f_runs x1 f_disk f_later f_open f_laid f_places f_changed f_targets f_bytes f_first f_behind f_numbers f_sectors f_oldest f_newest f_keptNumbers f_keptSectors f_kept f_thrown f_head)) rfl (fun H locs hH => ?_)
  refine lv_iload_n hx hb dX57_full_10 rfl (lv_at hl 0 rfl) ?_
  have hq_2 := hw.1
  have hw := hw.2
  exact k_iret (v := f_full) X hH (x1) hw rfl (k_zn (z_boolE (rfl : f_full.toInt = _) hq_2)) dX57_full_11
