/-! BASE 6: statics, casts, copies, calls by the receiver's class -/
set_option maxRecDepth 100000
section KP6
variable {Xw : va_W} {G : kGt} {p : Program} {l : Launch} {e : Env} {R : Room} {s : State} {m : MethodId} {args : Array Value} {below : List Frame} {meth : Method} {c : Code} {H : Heap} {locs : List Loc} {cells slots : Nat} {Q : State → Prop}
variable {cc : ByteArray} {pc nL : Nat} {ls : Array Slot} {rest st : List Value} {own : String} {ret : Option FieldType} {D : va_G} {cl : List vw_C} {tys : List (ClassId × FieldType)} {A : Nat → Prop} {H0 : Heap} {kd0 an0 kd an : Nat → Nat} {f f1 : Nat → va_E} {a b K K0 : Nat}
/-- what lies outside is not owned -/
theorem p_out (h : kHp Xw D cl A H0 H locs kd0 an0 kd an f) {t : Nat} (ht : ¬ A t) : kd t = 0 := by
  obtain ⟨-, L, hL, hH⟩ := h
  apply Classical.byContradiction
  intro hk
  obtain ⟨q, hq⟩ := va_pl_get (X := Xw) (f := f) ((hL t).mpr hk)
  exact ht (hH.2.1.2 q _ hq)
theorem p_gets (X : kXp G p s m args meth c cc nL own ret D cl tys A) (h : kHp Xw D cl A s.heap H locs kd0 an0 kd an f) {C n d : String} {v : Value} {index : Nat} (hZ : va_Z C n d v A s s.heap) (hl : Cond.fieldLink own index C n d ∈ lw_all) (hdg : decode cc pc = .ok (.getstatic index, 3))
    (kk : W p l e R s m args below meth c H locs cells slots Q (F0 m (pc + 3) ls (v :: rest))) : W p l e R s m args below meth c H locs cells slots Q (F0 m pc ls rest) :=
  va_gets X.1.1.1 X.1.1.2.1 hZ (p_S h) X.1.1.2.2.2.1 (X.1.1.2.2.2.2 _ hl) (fun _ z => z) hdg kk
theorem p_getsN (X : kXp G p s m args meth c cc nL own ret D cl tys A) (h : kHp Xw D cl A s.heap H locs kd0 an0 kd an f) {C n d host : String} {v : Value} {index : Nat} (hZ : va_Z C n d v A s s.heap) (hl : Cond.fieldLinkNest own index C n d host ∈ lw_tbl) (hdg : decode cc pc = .ok (.getstatic index, 3))
    (kk : W p l e R s m args below meth c H locs cells slots Q (F0 m (pc + 3) ls (v :: rest))) : W p l e R s m args below meth c H locs cells slots Q (F0 m pc ls rest) :=
  va_getsN X.1.1.1 X.1.1.2.1 hZ (p_S h) X.1.1.2.2.2.1 (X.2.1.use hl rfl) (fun _ z => z) hdg kk
theorem p_tlen (X : kXp G p s m args meth c cc nL own ret D cl tys A) (h : kHp Xw D cl A s.heap H locs kd0 an0 kd an f) {ty : FieldType} {t N : Nat} {g : Nat → Value} (hT : va_T ty t N g A s s.heap) (hdg : decode cc pc = .ok (.arraylength, 1))
    (kk : W p l e R s m args below meth c H locs cells slots Q (F0 m (pc + 1) ls (.int (nI N) :: rest))) : W p l e R s m args below meth c H locs cells slots Q (F0 m pc ls (.ref t :: rest)) :=
  va_tlen X.1.1.1 X.1.1.2.1 hT (p_S h) rfl hdg kk
theorem p_ti (X : kXp G p s m args meth c cc nL own ret D cl tys A) (h : kHp Xw D cl A s.heap H locs kd0 an0 kd an f) {t N : Nat} {g : Nat → Int32} (hT : va_T .int t N (fun j => .int (g j)) A s s.heap) {i : Int32} (hin : vp_in i N) (hdg : decode cc pc = .ok (.iaload, 1))
    (kk : W p l e R s m args below meth c H locs cells slots Q (F0 m (pc + 1) ls (.int (g i.toNatClampNeg) :: rest))) : W p l e R s m args below meth c H locs cells slots Q (F0 m pc ls (.int i :: .ref t :: rest)) :=
  va_ti X.1.1.1 X.1.1.2.1 hT (p_S h) hin rfl hdg kk
theorem p_tl (X : kXp G p s m args meth c cc nL own ret D cl tys A) (h : kHp Xw D cl A s.heap H locs kd0 an0 kd an f) {t N : Nat} {g : Nat → Int64} (hT : va_T .long t N (fun j => .long (g j)) A s s.heap) {i : Int32} (hin : vp_in i N) (hdg : decode cc pc = .ok (.laload, 1))
    (kk : W p l e R s m args below meth c H locs cells slots Q (F0 m (pc + 1) ls (.long (g i.toNatClampNeg) :: rest))) : W p l e R s m args below meth c H locs cells slots Q (F0 m pc ls (.int i :: .ref t :: rest)) :=
  va_tl X.1.1.1 X.1.1.2.1 hT (p_S h) hin rfl hdg kk
theorem p_tb (X : kXp G p s m args meth c cc nL own ret D cl tys A) (h : kHp Xw D cl A s.heap H locs kd0 an0 kd an f) {t N : Nat} {g : Nat → Int32} (hT : va_T .byte t N (fun j => .int (g j)) A s s.heap) {i : Int32} (hin : vp_in i N) (hdg : decode cc pc = .ok (.baload, 1))
    (kk : W p l e R s m args below meth c H locs cells slots Q (F0 m (pc + 1) ls (.int (g i.toNatClampNeg) :: rest))) : W p l e R s m args below meth c H locs cells slots Q (F0 m pc ls (.int i :: .ref t :: rest)) :=
  va_tb X.1.1.1 X.1.1.2.1 hT (p_S h) hin rfl hdg kk
/-- the object behind an owned address -/
theorem p_cell (X : kXp G p s m args meth c cc nL own ret D cl tys A) (h : kHp Xw D cl A H0 H locs kd0 an0 kd an f) (hk : kd a = K) (hK : K ≠ 0) {ci : Nat} {fs : List Value} {r : vw_C} (he : f a = .inr (ci, fs)) (hc : cl[ci]? = some r) : ∃ cell : Cell, H[a]? = some cell ∧ cell.vm.isStatics = false ∧ s.vm.findClass r.1 = some cell.cls := by
  obtain ⟨L, q, -, -, hH, hq⟩ := p_at h hk hK
  exact va_recv X.1.2.2.2 hH.1 hc (q0 := q) (fs := fs) (by rw [← he]; exact hq)
theorem p_castS (X : kXp G p s m args meth c cc nL own ret D cl tys A) (h : kHp Xw D cl A H0 H locs kd0 an0 kd an f) (hk : kd a = K) (hK : K ≠ 0) {ci index : Nat} {fs : List Value} {r : vw_C} (he : f a = .inr (ci, fs)) (hc : cl[ci]? = some r) (hl : Cond.classLink own index r.1 ∈ lw_all) (hdg : decode cc pc = .ok (.checkcast index, 3))
    (kk : W p l e R s m args below meth c H locs cells slots Q (F0 m (pc + 3) ls (.ref a :: rest))) : W p l e R s m args below meth c H locs cells slots Q (F0 m pc ls (.ref a :: rest)) :=
  va_castS X.1.1.1 X.1.1.2.1 X.1.1.2.2.2.1 (X.1.1.2.2.2.2 _ hl) (X.1.2.2.2.1 ci r hc).2 (p_cell X h hk hK he hc) hdg kk
theorem p_castY (X : kXp G p s m args meth c cc nL own ret D cl tys A) (h : kHp Xw D cl A H0 H locs kd0 an0 kd an f) (hk : kd a = K) (hK : K ≠ 0) {ci index : Nat} {fs : List Value} {r : vw_C} {nm : String} (he : f a = .inr (ci, fs)) (hc : cl[ci]? = some r) (hl : Cond.classLink own index nm ∈ lw_all) (hw : Cond.castable r.1 nm ∈ lw_tbl) (hdg : decode cc pc = .ok (.checkcast index, 3))
    (kk : W p l e R s m args below meth c H locs cells slots Q (F0 m (pc + 3) ls (.ref a :: rest))) : W p l e R s m args below meth c H locs cells slots Q (F0 m pc ls (.ref a :: rest)) :=
  va_castY X.1.1.1 X.1.1.2.1 X.1.1.2.2.2.1 (X.1.1.2.2.2.2 _ hl) (X.2.1 _ hw rfl) (p_cell X h hk hK he hc) hdg kk
theorem p_instS (X : kXp G p s m args meth c cc nL own ret D cl tys A) (h : kHp Xw D cl A H0 H locs kd0 an0 kd an f) (hk : kd a = K) (hK : K ≠ 0) {ci index : Nat} {fs : List Value} {r : vw_C} (he : f a = .inr (ci, fs)) (hc : cl[ci]? = some r) (hl : Cond.classLink own index r.1 ∈ lw_all) (hdg : decode cc pc = .ok (.instanceof index, 3))
    (kk : W p l e R s m args below meth c H locs cells slots Q (F0 m (pc + 3) ls (.int 1 :: rest))) : W p l e R s m args below meth c H locs cells slots Q (F0 m pc ls (.ref a :: rest)) :=
  va_instS X.1.1.1 X.1.1.2.1 X.1.1.2.2.2.1 (X.1.1.2.2.2.2 _ hl) (X.1.2.2.2.1 ci r hc).2 (p_cell X h hk hK he hc) hdg kk
theorem p_instY (X : kXp G p s m args meth c cc nL own ret D cl tys A) (h : kHp Xw D cl A H0 H locs kd0 an0 kd an f) (hk : kd a = K) (hK : K ≠ 0) {ci index : Nat} {fs : List Value} {r : vw_C} {nm : String} (he : f a = .inr (ci, fs)) (hc : cl[ci]? = some r) (hl : Cond.classLink own index nm ∈ lw_all) (hw : Cond.castable r.1 nm ∈ lw_tbl) (hdg : decode cc pc = .ok (.instanceof index, 3))
    (kk : W p l e R s m args below meth c H locs cells slots Q (F0 m (pc + 3) ls (.int 1 :: rest))) : W p l e R s m args below meth c H locs cells slots Q (F0 m pc ls (.ref a :: rest)) :=
  va_instY X.1.1.1 X.1.1.2.1 X.1.1.2.2.2.1 (X.1.1.2.2.2.2 _ hl) (X.2.1 _ hw rfl) (p_cell X h hk hK he hc) hdg kk
theorem p_instNo (X : kXp G p s m args meth c cc nL own ret D cl tys A) (h : kHp Xw D cl A H0 H locs kd0 an0 kd an f) (hk : kd a = K) (hK : K ≠ 0) {ci index : Nat} {fs : List Value} {r : vw_C} {nm : String} (he : f a = .inr (ci, fs)) (hc : cl[ci]? = some r) (hl : Cond.classLink own index nm ∈ lw_all) (hw : va_Nc r.1 nm s) (hdg : decode cc pc = .ok (.instanceof index, 3))
    (kk : W p l e R s m args below meth c H locs cells slots Q (F0 m (pc + 3) ls (.int 0 :: rest))) : W p l e R s m args below meth c H locs cells slots Q (F0 m pc ls (.ref a :: rest)) :=
  va_instNo X.1.1.1 X.1.1.2.1 X.1.1.2.2.2.1 (X.1.1.2.2.2.2 _ hl) hw (p_cell X h hk hK he hc) hdg kk
/-- System.arraycopy within the world -/
theorem p_copyi (X : kXp G p s m args meth c cc nL own ret D cl tys A) (h : kHp Xw D cl A H0 H locs kd0 an0 kd an f) {a0 : Nat} (hk0 : kd a0 = K0) (hK0 : K0 ≠ 0) (hk : kd a = K) (hK : K ≠ 0) {index n0 n1 : Nat} {c0 : ClassId} {g0 g1 : Nat → Int32} {ty : FieldType} (he0 : f a0 = .inl (c0, n0, .inl g0)) (he : f a = .inl (c0, n1, .inl g1)) (t0 : Nat) (ht : tys[t0]? = some (c0, ty)) (hprim : refKind ty = false)
    (hl : Cond.methodLink own index arraycopyName ∈ lw_all) (hnat : Cond.native arraycopyName ∈ lw_all) (hst : Cond.static arraycopyName ∈ lw_all) (hini : Cond.initialized "java/lang/System" ∈ lw_all) (hsize : ls.size = nL)
    {sp dp n : Int32} (h1 : ¬ sp < 0) (h2 : ¬ dp < 0) (h3 : ¬ n < 0) (h4 : sp.toNatClampNeg + n.toNatClampNeg ≤ n0) (h5 : dp.toNatClampNeg + n.toNatClampNeg ≤ n1) (hfit : ∀ i, i < n.toNatClampNeg → fits ty (.int (g0 (sp.toNatClampNeg + i))) = true)
    (hframes : 1 ≤ R.frames) (hlocals : (rest.map fun v => v.category).sum + (nativeFrameWords "java/lang/System" "arraycopy" 5 + 11) ≤ R.locals) (hdg : decode cc pc = .ok (.invokestatic index, 3)) (hf1 : va_up f a (.inl (c0, n1, .inl (va_cpy g0 g1 sp.toNatClampNeg dp.toNatClampNeg n.toNatClampNeg))) = f1)
    (kk : ∀ (H1 : Heap) (locs1 : List Loc), kHp Xw D cl A H0 H1 locs1 kd0 an0 kd an f1 → W p l e R s m args below meth c H1 locs1 cells slots Q (F0 m (pc + 3) ls rest)) : W p l e R s m args below meth c H locs cells slots Q (F0 m pc ls (.int n :: .int dp :: .ref a :: .int sp :: .ref a0 :: rest)) := by
  obtain ⟨hle, L, hL, hH⟩ := h
  have ha := (hL a).mpr (by rw [hk]; exact hK)
  obtain ⟨q, hq⟩ := va_pl_get (X := Xw) (f := f) ha
  obtain ⟨q0, hq0⟩ := va_pl_get (X := Xw) (f := f) ((hL a0).mpr (by rw [hk0]; exact hK0))
  have hq' : (Xw ++ va_pl L f)[q]? = some (a, .inl (c0, n1, .inl g1)) := by rw [← he]; exact hq
  have hq0' : (Xw ++ va_pl L f)[q0]? = some (a0, .inl (c0, n0, .inl g0)) := by rw [← he0]; exact hq0
  exact va_copyi X.1.1.1 X.1.1.2.1 (by rw [X.2.2.2.2, hsize]) X.1.1.2.2.2.1 (X.1.1.2.2.2.2 _ hl) (X.1.1.2.2.2.2 _ hnat) (X.1.1.2.2.2.2 _ hst) (X.1.1.2.2.2.2 _ hini) X.1.2.2.2 hH.1 hH.2.1 hH.2.2.1 q0 q t0 t0 hq0' hq' ht ht hprim h1 h2 h3 h4 h5 hfit hframes hlocals hdg (fun H1 l1 w1 w2 w3 => kk H1 l1 (p_back hle hL ha hH hq hf1 w1 w2 w3))
theorem p_copyl (X : kXp G p s m args meth c cc nL own ret D cl tys A) (h : kHp Xw D cl A H0 H locs kd0 an0 kd an f) {a0 : Nat} (hk0 : kd a0 = K0) (hK0 : K0 ≠ 0) (hk : kd a = K) (hK : K ≠ 0) {index n0 n1 : Nat} {c0 : ClassId} {g0 g1 : Nat → Int64} {ty : FieldType} (he0 : f a0 = .inl (c0, n0, .inr (.inl g0))) (he : f a = .inl (c0, n1, .inr (.inl g1))) (t0 : Nat) (ht : tys[t0]? = some (c0, ty)) (hprim : refKind ty = false)
    (hl : Cond.methodLink own index arraycopyName ∈ lw_all) (hnat : Cond.native arraycopyName ∈ lw_all) (hst : Cond.static arraycopyName ∈ lw_all) (hini : Cond.initialized "java/lang/System" ∈ lw_all) (hsize : ls.size = nL)
    {sp dp n : Int32} (h1 : ¬ sp < 0) (h2 : ¬ dp < 0) (h3 : ¬ n < 0) (h4 : sp.toNatClampNeg + n.toNatClampNeg ≤ n0) (h5 : dp.toNatClampNeg + n.toNatClampNeg ≤ n1) (hfit : ∀ i, i < n.toNatClampNeg → fits ty (.long (g0 (sp.toNatClampNeg + i))) = true)
    (hframes : 1 ≤ R.frames) (hlocals : (rest.map fun v => v.category).sum + (nativeFrameWords "java/lang/System" "arraycopy" 5 + 11) ≤ R.locals) (hdg : decode cc pc = .ok (.invokestatic index, 3)) (hf1 : va_up f a (.inl (c0, n1, .inr (.inl (va_cpy g0 g1 sp.toNatClampNeg dp.toNatClampNeg n.toNatClampNeg)))) = f1)
    (kk : ∀ (H1 : Heap) (locs1 : List Loc), kHp Xw D cl A H0 H1 locs1 kd0 an0 kd an f1 → W p l e R s m args below meth c H1 locs1 cells slots Q (F0 m (pc + 3) ls rest)) : W p l e R s m args below meth c H locs cells slots Q (F0 m pc ls (.int n :: .int dp :: .ref a :: .int sp :: .ref a0 :: rest)) := by
  obtain ⟨hle, L, hL, hH⟩ := h
  have ha := (hL a).mpr (by rw [hk]; exact hK)
  obtain ⟨q, hq⟩ := va_pl_get (X := Xw) (f := f) ha
  obtain ⟨q0, hq0⟩ := va_pl_get (X := Xw) (f := f) ((hL a0).mpr (by rw [hk0]; exact hK0))
  have hq' : (Xw ++ va_pl L f)[q]? = some (a, .inl (c0, n1, .inr (.inl g1))) := by rw [← he]; exact hq
  have hq0' : (Xw ++ va_pl L f)[q0]? = some (a0, .inl (c0, n0, .inr (.inl g0))) := by rw [← he0]; exact hq0
  exact va_copyl X.1.1.1 X.1.1.2.1 (by rw [X.2.2.2.2, hsize]) X.1.1.2.2.2.1 (X.1.1.2.2.2.2 _ hl) (X.1.1.2.2.2.2 _ hnat) (X.1.1.2.2.2.2 _ hst) (X.1.1.2.2.2.2 _ hini) X.1.2.2.2 hH.1 hH.2.1 hH.2.2.1 q0 q t0 t0 hq0' hq' ht ht hprim h1 h2 h3 h4 h5 hfit hframes hlocals hdg (fun H1 l1 w1 w2 w3 => kk H1 l1 (p_back hle hL ha hH hq hf1 w1 w2 w3))
theorem p_copyq (X : kXp G p s m args meth c cc nL own ret D cl tys A) (h : kHp Xw D cl A H0 H locs kd0 an0 kd an f) {a0 : Nat} (hk0 : kd a0 = K0) (hK0 : K0 ≠ 0) (hk : kd a = K) (hK : K ≠ 0) {index n0 n1 : Nat} {c0 : ClassId} {g0 g1 : Nat → Option Nat} {E : String} (he0 : f a0 = .inl (c0, n0, .inr (.inr (.inr (.inr g0))))) (he : f a = .inl (c0, n1, .inr (.inr (.inr (.inr g1))))) (t0 : Nat) (ht : tys[t0]? = some (c0, .object E))
    (hl : Cond.methodLink own index arraycopyName ∈ lw_all) (hnat : Cond.native arraycopyName ∈ lw_all) (hst : Cond.static arraycopyName ∈ lw_all) (hini : Cond.initialized "java/lang/System" ∈ lw_all) (hsize : ls.size = nL)
    {sp dp n : Int32} (h1 : ¬ sp < 0) (h2 : ¬ dp < 0) (h3 : ¬ n < 0) (h4 : sp.toNatClampNeg + n.toNatClampNeg ≤ n0) (h5 : dp.toNatClampNeg + n.toNatClampNeg ≤ n1) (hel : ∀ i : Nat, i < n.toNatClampNeg → ∀ y : Nat, g0 (sp.toNatClampNeg + i) = some y → va_Any E s H y)
    (hframes : 1 ≤ R.frames) (hlocals : (rest.map fun v => v.category).sum + (nativeFrameWords "java/lang/System" "arraycopy" 5 + 11) ≤ R.locals) (hdg : decode cc pc = .ok (.invokestatic index, 3)) (hf1 : va_up f a (.inl (c0, n1, .inr (.inr (.inr (.inr (va_cpy g0 g1 sp.toNatClampNeg dp.toNatClampNeg n.toNatClampNeg)))))) = f1)
    (kk : ∀ (H1 : Heap) (locs1 : List Loc), kHp Xw D cl A H0 H1 locs1 kd0 an0 kd an f1 → W p l e R s m args below meth c H1 locs1 cells slots Q (F0 m (pc + 3) ls rest)) : W p l e R s m args below meth c H locs cells slots Q (F0 m pc ls (.int n :: .int dp :: .ref a :: .int sp :: .ref a0 :: rest)) := by
  obtain ⟨hle, L, hL, hH⟩ := h
  have ha := (hL a).mpr (by rw [hk]; exact hK)
  obtain ⟨q, hq⟩ := va_pl_get (X := Xw) (f := f) ha
  obtain ⟨q0, hq0⟩ := va_pl_get (X := Xw) (f := f) ((hL a0).mpr (by rw [hk0]; exact hK0))
  have hq' : (Xw ++ va_pl L f)[q]? = some (a, .inl (c0, n1, .inr (.inr (.inr (.inr g1))))) := by rw [← he]; exact hq
  have hq0' : (Xw ++ va_pl L f)[q0]? = some (a0, .inl (c0, n0, .inr (.inr (.inr (.inr g0))))) := by rw [← he0]; exact hq0
  exact va_copyM X.1.1.1 X.1.1.2.1 (by rw [X.2.2.2.2, hsize]) X.1.1.2.2.2.1 (X.1.1.2.2.2.2 _ hl) (X.1.1.2.2.2.2 _ hnat) (X.1.1.2.2.2.2 _ hst) (X.1.1.2.2.2.2 _ hini) X.1.2.2.2 hH.1 hH.2.1 hH.2.2.1 q0 q t0 t0 hq0' hq' ht ht h1 h2 h3 h4 h5 hel hframes hlocals hdg (fun H1 l1 w1 w2 w3 => kk H1 l1 (p_back hle hL ha hH hq hf1 w1 w2 w3))
/-- class objects: getClass of an array of objects, a class constant -/
theorem p_acell (h : kHp Xw D cl A H0 H locs kd0 an0 kd an f) (hk : kd a = K) (hK : K ≠ 0) {cA : ClassId} {x : vp_A} (he : f a = .inl (cA, x)) : ∃ cell : Cell, H[a]? = some cell ∧ cell.vm.isStatics = false ∧ cell.cls = cA := by
  obtain ⟨L, q, -, -, hH, hq⟩ := p_at h hk hK
  have h1 : H[a]? = some (vp_cell cA x) := hH.1 q (a, .inl (cA, x)) (by rw [← he]; exact hq)
  refine ⟨_, h1, ?_, ?_⟩
  · obtain ⟨n, g | g | g | g | g⟩ := x <;> rfl
  · obtain ⟨n, g | g | g | g | g⟩ := x <;> rfl
theorem p_getC (X : kXp G p s m args meth c cc nL own ret D cl tys A) (h : kHp Xw D cl A H0 H locs kd0 an0 kd an f) (hk : kd a = K) (hK : K ≠ 0) {cA : ClassId} {x : vp_A} (he : f a = .inl (cA, x)) (t0 : Nat) (ht : tys[t0]? = some (cA, .object "java/lang/Object")) {index mi : Nat} (hl : Cond.methodLink own index ⟨"java/lang/Object", "getClass", "()Ljava/lang/Class;"⟩ ∈ lw_all) (hdc : Cond.declares ⟨"java/lang/Object", "getClass", "()Ljava/lang/Class;"⟩ ∈ lw_tbl) (hsel : Cond.selects "[Ljava/lang/Object;" ⟨"java/lang/Object", "getClass", "()Ljava/lang/Class;"⟩ ⟨"java/lang/Object", "getClass", "()Ljava/lang/Class;"⟩ ∈ lw_all) (hins : Cond.instanceMethod ⟨"java/lang/Object", "getClass", "()Ljava/lang/Class;"⟩ ∈ lw_all) (hnat : Cond.native ⟨"java/lang/Object", "getClass", "()Ljava/lang/Class;"⟩ ∈ lw_all)
    (hM : va_Mi "[Ljava/lang/Object;" mi s) (hsize : ls.size = nL) (hframes : 1 ≤ R.frames) (hlocals : (rest.map fun v => v.category).sum + 14 ≤ R.locals) (hdg : decode cc pc = .ok (.invokevirtual index, 3))
    (kk : W p l e R s m args below meth c H locs cells slots Q (F0 m (pc + 3) ls (.ref mi :: rest))) : W p l e R s m args below meth c H locs cells slots Q (F0 m pc ls (.ref a :: rest)) := by
  obtain ⟨cell, g1, g2, g3⟩ := p_acell h hk hK he
  obtain ⟨kA, comp, -, -, -, h4⟩ := (X.1.2.2.2.2 t0 _ ht).2
  exact va_getC X.1.1.1 X.1.1.2.1 (by rw [X.2.2.2.2, hsize]) X.1.1.2.2.2.1 (X.1.1.2.2.2.2 _ hl) (X.2.1.use hdc rfl) (X.1.1.2.2.2.2 _ hsel) (X.1.1.2.2.2.2 _ hins) (X.1.1.2.2.2.2 _ hnat) hM ⟨cell, g1, g2, by rw [g3]; exact h4⟩ hframes hlocals hdg kk
theorem p_getU (X : kXp G p s m args meth c cc nL own ret D cl tys A) (h : kHp Xw D cl A H0 H locs kd0 an0 kd an f) (hk : kd a = K) (hK : K ≠ 0) {C ref : String} {T : u_T} {N ci index : Nat} (hin : ∀ w ∈ u_ws C T N, w ∈ lw_all) {fs : List Value} (he : f a = .inr (ci, fs)) (hc : cl[ci]? = some (C, T, N)) (k : Nat) (hkN : k < N) (hl : Cond.fieldLink own index ref (T k).2.1 (T k).2.2.1 ∈ lw_all) (hsm : Cond.sameField ref (T k).1 (T k).2.1 (T k).2.2.1 ∈ lw_all) {v : Value} (hv : fs[k]? = some v) (hdg : decode cc pc = .ok (.getfield index, 3))
    (kk : W p l e R s m args below meth c H locs cells slots Q (F0 m (pc + 3) ls (v :: rest))) : W p l e R s m args below meth c H locs cells slots Q (F0 m pc ls (.ref a :: rest)) := by
  obtain ⟨L, q, -, -, hH, hq⟩ := p_at h hk hK
  exact va_get X.1.1.1 X.1.1.2.1 X.1.1.2.2.2.2 hin X.1.1.2.2.2.1 X.1.2.2.2 hH.1 q (by rw [← he]; exact hq) hc k hkN (X.1.1.2.2.2.2 _ hl) (fun x hx => u_same (X.1.1.2.2.2.2 _ hsm) x hx) hv hdg kk
theorem p_putU (X : kXp G p s m args meth c cc nL own ret D cl tys A) (h : kHp Xw D cl A H0 H locs kd0 an0 kd an f) (hk : kd a = K) (hK : K ≠ 0) {C ref : String} {T : u_T} {N ci index : Nat} (hin : ∀ w ∈ u_ws C T N, w ∈ lw_all) {ty0 : Nat → FieldType} (hty : ∀ k, k < N → parseFieldDescriptor (T k).2.2.1 = some (ty0 k)) (hnm : ∀ a, a < N → ∀ b, b < N → a ≠ b → (T a).2.1 ≠ (T b).2.1) {fs : List Value} (he : f a = .inr (ci, fs)) (hc : cl[ci]? = some (C, T, N)) (k : Nat) (hkN : k < N) (hl : Cond.fieldLink own index ref (T k).2.1 (T k).2.2.1 ∈ lw_all) (hsm : Cond.sameField ref (T k).1 (T k).2.1 (T k).2.2.1 ∈ lw_all) (hfin : (T k).2.2.2 = false) {ty : FieldType} {v : Value} (hd : ty0 k = ty) (hn : narrow ty v = v) (hfit : fits ty v = true) (hlen : k < fs.length)
    (hdg : decode cc pc = .ok (.putfield index, 3)) (hf1 : va_up f a (.inr (ci, fs.set k v)) = f1) (kk : ∀ (H1 : Heap) (locs1 : List Loc), kHp Xw D cl A H0 H1 locs1 kd0 an0 kd an f1 → W p l e R s m args below meth c H1 locs1 cells slots Q (F0 m (pc + 3) ls rest)) : W p l e R s m args below meth c H locs cells slots Q (F0 m pc ls (v :: .ref a :: rest)) := by
  obtain ⟨L, q, hL, ha, hH, hq⟩ := p_at h hk hK
  exact va_put X.1.1.1 X.1.1.2.1 X.1.1.2.2.2.2 hin ty0 hty hnm X.1.1.2.2.2.1 X.1.2.2.2 hH.1 hH.2.1 hH.2.2.1 q (by rw [← he]; exact hq) hc k hkN (X.1.1.2.2.2.2 _ hl) (fun x hx => u_same (X.1.1.2.2.2.2 _ hsm) x hx) hfin ((hty k hkN).trans (by rw [hd])) hn hfit hlen hdg (fun H1 l1 h1 h2 h3 => kk H1 l1 (p_back h.1 hL ha hH hq hf1 h1 h2 h3))
variable {L : List Nat} {x y : MethodName} {bytes : ByteArray} {maxL n index : Nat} {rety : Option FieldType} {rm : Room} {Qc : Array Value → State → Outcome → State → Prop} {C owner : String} {As : List Value} {mc ms : Nat}
/-- a call by the receiver's class: inherited, overriding or abstract -/
theorem p_runU (X : kXp G p s m args meth c cc nL own ret D cl tys A) (hH : kH D cl A s.heap H locs (Xw ++ va_pl L f)) (hL : kDom L kd) (hk : kd b = K) (hK : K ≠ 0) {ci : Nat} {fs : List Value} {T : u_T} {N : Nat} (he : f b = .inr (ci, fs)) (hc : cl[ci]? = some (C, T, N)) (hM : Met l y (ws_ y bytes maxL rety) rm (kPp Xw G D cl tys (.ref b :: As) H.size L f) Qc mc ms (va_A (Xw ++ va_pl L f) H.size))
    (cw : va_CU R s args own C owner index x y bytes maxL rety (ws_ y bytes maxL rety) rm mc ms n) (hn : As.length = n) (hsize : ls.size = nL) (hst : st = As.reverse ++ .ref b :: rest) (hW : (rest.map fun v => v.category).sum ≤ 8) (hdg : decode cc pc = .ok (.invokevirtual index, 3)) (hf : cells + mc ≤ R.cells ∧ slots + ms ≤ R.slots) :
    va_Run p l e R s m args below meth c H locs cells slots mc ms (F0 m pc ls st) rest (Qc (Value.ref b :: As).toArray) (va_A (Xw ++ va_pl L f) H.size) := by
  subst hst
  exact va_runU X.1.1 hM cw ⟨kPp_blind X.2.2.1, p_recv X hH hL hk hK he hc, fun U hU hW => p_pre X hH _ U hU hW⟩ rfl hn hsize rfl (lv_room hW) hdg hf
/-- through an interface -/
theorem p_runF (X : kXp G p s m args meth c cc nL own ret D cl tys A) (hH : kH D cl A s.heap H locs (Xw ++ va_pl L f)) (hL : kDom L kd) (hk : kd b = K) (hK : K ≠ 0) {ci count : Nat} {fs : List Value} {T : u_T} {N : Nat} (he : f b = .inr (ci, fs)) (hc : cl[ci]? = some (C, T, N)) (hM : Met l y (ws_ y bytes maxL rety) rm (kPp Xw G D cl tys (.ref b :: As) H.size L f) Qc mc ms (va_A (Xw ++ va_pl L f) H.size))
    (cw : va_CI R s args own C index x y bytes maxL rety (ws_ y bytes maxL rety) rm mc ms n) (hn : As.length = n) (hsize : ls.size = nL) (hst : st = As.reverse ++ .ref b :: rest) (hW : (rest.map fun v => v.category).sum ≤ 8) (hdg : decode cc pc = .ok (.invokeinterface index count, 5)) (hf : cells + mc ≤ R.cells ∧ slots + ms ≤ R.slots) :
    va_Run5 p l e R s m args below meth c H locs cells slots mc ms (F0 m pc ls st) rest (Qc (Value.ref b :: As).toArray) (va_A (Xw ++ va_pl L f) H.size) := by
  subst hst
  exact va_runF (X.1.2.2.2.1 ci _ hc).2 X.1.1 hM cw ⟨kPp_blind X.2.2.1, p_recv X hH hL hk hK he hc, fun U hU hW => p_pre X hH _ U hU hW⟩ rfl hn hsize rfl (lv_room hW) hdg hf
variable {ar : Array Value} {S : Type} {fk : S → (Nat → Nat) × (Nat → Nat) × (Nat → va_E)}
theorem p_i5 {post : Int32 → S → Prop} (h : kHp Xw D cl A s.heap H locs kd0 an0 kd an f) (hr : ∀ L : List Nat, kDom L kd → kH D cl A s.heap H locs (Xw ++ va_pl L f) → va_Run5 p l e R s m args below meth c H locs cells slots mc ms (F0 m pc ls st) rest (va_Qi post (kBp Xw D cl (va_A (Xw ++ va_pl L f) H.size) kd an fk) (va_A (Xw ++ va_pl L f) H.size) ar) (va_A (Xw ++ va_pl L f) H.size))
    (kk : ∀ (r : Int32) (u : S) (H1 : Heap) (locs1 : List Loc), post r u → kLe kd an (fk u).1 (fk u).2.1 → kHp Xw D cl A s.heap H1 locs1 kd0 an0 (fk u).1 (fk u).2.1 (fk u).2.2 → W p l e R s m args below meth c H1 locs1 (cells + mc) (slots + ms) Q (F0 m (pc + 5) ls (.int r :: rest))) : W p l e R s m args below meth c H locs cells slots Q (F0 m pc ls st) := by
  obtain ⟨L, hL, hH⟩ := h.2
  refine va_callFi (hr L hL hH) hH.2.2.1 (fun q _ z => p_free hH q z) (p_free hH) (fun r u t H1 locs1 ht hvm hp hB hz hk hS => ?_)
  subst ht
  obtain ⟨g1, g2⟩ := p_after h hH hB hS
  exact kk r u t.heap locs1 hp g1 g2
theorem p_q5 {post : Option Nat → S → Prop} (h : kHp Xw D cl A s.heap H locs kd0 an0 kd an f) (hr : ∀ L : List Nat, kDom L kd → kH D cl A s.heap H locs (Xw ++ va_pl L f) → va_Run5 p l e R s m args below meth c H locs cells slots mc ms (F0 m pc ls st) rest (va_Qq post (kBp Xw D cl (va_A (Xw ++ va_pl L f) H.size) kd an fk) (va_A (Xw ++ va_pl L f) H.size) ar) (va_A (Xw ++ va_pl L f) H.size))
    (kk : ∀ (r : Option Nat) (u : S) (H1 : Heap) (locs1 : List Loc), post r u → kLe kd an (fk u).1 (fk u).2.1 → kHp Xw D cl A s.heap H1 locs1 kd0 an0 (fk u).1 (fk u).2.1 (fk u).2.2 → W p l e R s m args below meth c H1 locs1 (cells + mc) (slots + ms) Q (F0 m (pc + 5) ls (va_rf r :: rest))) : W p l e R s m args below meth c H locs cells slots Q (F0 m pc ls st) := by
  obtain ⟨L, hL, hH⟩ := h.2
  refine va_callFq (hr L hL hH) hH.2.2.1 (fun q _ z => p_free hH q z) (p_free hH) (fun r u t H1 locs1 ht hvm hp hB hz hk hS => ?_)
  subst ht
  obtain ⟨g1, g2⟩ := p_after h hH hB hS
  exact kk r u t.heap locs1 hp g1 g2
end KP6
