/-! BASE: one bundle for what stays all through a method (kX), one for the world at hand (kH), and the kit's heap rows over them -/
set_option maxRecDepth 100000
/-- what stays all through a method's run: code, own class, tables' words, answer's type, classes and array classes -/
def kX (p : Program) (s : State) (m : MethodId) (args : Array Value) (meth : Method) (c : Code) (cc : ByteArray) (nL : Nat) (own : String) (ret : Option FieldType) (D : va_G) (cl : List vw_C) (tys : List (ClassId × FieldType)) : Prop :=
  CallFix p m c cc nL s args lw_all own ∧ meth.sig.returnType = ret ∧ meth.locks = false ∧ va_K D cl tys s
/-- the world at hand -/
def kH (D : va_G) (cl : List vw_C) (A : Nat → Prop) (H0 H : Heap) (locs : List Loc) (ws : va_W) : Prop :=
  va_P D cl ws H ∧ va_D A ws ∧ va_S A H0 H locs ∧ ∀ q, H0.size ≤ q → A q
/-- a contract's start: the arguments, the heap's size, the world -/
def kPc (D : va_G) (cl : List vw_C) (tys : List (ClassId × FieldType)) (av : List Value) (sz : Nat) (ws : va_W) : Array Value → State → Prop :=
  va_Pc av (fun U => U.heap.size = sz ∧ va_P D cl ws U.heap ∧ va_K D cl tys U ∧ va_D (fun _ => True) ws)
/-- the world behind it -/
def kB {S : Type} (D : va_G) (cl : List vw_C) (tys : List (ClassId × FieldType)) (A : Nat → Prop) (wf : S → va_W) (u : S) (t : State) : Prop :=
  va_P D cl (wf u) t.heap ∧ va_K D cl tys t ∧ va_D A (wf u)
theorem kPc_blind {D : va_G} {cl : List vw_C} {tys : List (ClassId × FieldType)} {av : List Value} {sz : Nat} {ws : va_W} : FrameBlind (kPc D cl tys av sz ws) := by
  intro a U g mk q
  obtain ⟨q0, q1, qP, qK, qD⟩ := q
  exact ⟨q0, q1, qP, va_K.moved (u := U) (U := U.calling g mk a) (Vm.Alike.refl U.vm) qK, qD⟩
theorem k_zn {v : Int32} (h : v = 0 ∨ v = 1) : narrow .boolean (.int v) = .int v := by rcases h with rfl | rfl <;> rfl
theorem k_zf {v : Int32} (h : v = 0 ∨ v = 1) : fits .boolean (.int v) = true := by rcases h with rfl | rfl <;> rfl
theorem k_nn {P : Prop} (h : ¬ ¬ P) : P := Classical.byContradiction h
theorem k_ne {x y : Int32} (h : ¬ x = y) {k : Int} (hk : y.toInt = k) : ¬ x.toInt = k := fun e => h (Int32.toInt_inj.mp (e.trans hk.symm))
theorem k_lc_eq {x y : Int64} : lg_cmp x y = 0 ↔ x = y := lg_cmp_eq x y
theorem k_lc_ne {x y : Int64} : (¬ lg_cmp x y = 0) ↔ ¬ x = y := not_congr (lg_cmp_eq x y)
theorem k_lc_lt {x y : Int64} : lg_cmp x y < 0 ↔ x < y := lg_cmp_lt x y
theorem k_lc_ge {x y : Int64} : 0 ≤ lg_cmp x y ↔ y ≤ x := lg_cmp_ge x y
theorem k_lc_gt {x y : Int64} : 0 < lg_cmp x y ↔ y < x := lg_cmp_gt x y
theorem k_lc_le {x y : Int64} : lg_cmp x y ≤ 0 ↔ x ≤ y := lg_cmp_le x y
section KR
variable {p : Program} {l : Launch} {e : Env} {R : Room} {s : State} {m : MethodId} {args : Array Value} {below : List Frame} {meth : Method} {c : Code} {H : Heap} {locs : List Loc} {cells slots : Nat} {Q : State → Prop}
variable {cc : ByteArray} {pc nL : Nat} {ls : Array Slot} {rest : List Value} {own : String} {ret : Option FieldType} {D : va_G} {cl : List vw_C} {tys : List (ClassId × FieldType)} {A : Nat → Prop} {H0 : Heap} {ws ws1 : va_W} {a : Nat}
theorem k_enter {y : MethodName} {rm : Room} {av : List Value} {sz : Nat} {Qc : Array Value → State → Outcome → State → Prop} {mc ms : Nat} {free : Addr → Prop} (hy : plainName y.cls = true) (hav : (lg_sl av).length ≤ nL)
    (body : ∀ (p : Program) (e : Env) (s : State) (m : MethodId) (below : List Frame) (meth : Method) (c : Code) (ls : Array Slot), kX p s m av.toArray meth c cc nL y.cls ret D cl tys → s.heap.size = sz → kH D cl (va_A ws sz) s.heap s.heap [] ws → lv_has ls nL (lv_args 0 av) →
      W p l e rm s m av.toArray below meth c s.heap [] 0 0 (MQ below Qc av.toArray s mc ms free) (F0 m 0 ls [])) : Met l y (ws_ y cc nL ret) rm (kPc D cl tys av sz ws) Qc mc ms free := by
  refine Met.ofW (cc := cc) (maxL := nL) (ret := ret) hy rfl ?_
  intro p e s m args below meth c s₁ B hml hv
  obtain ⟨rfl, hsz, hP, hK, hD0⟩ := hv
  have hts := atoms_spec (ws := ws_ y cc nL ret) B.pre
  have hts : ∀ w ∈ lw_all, w.before _ s = true := fun w h => hts w (List.mem_cons_of_mem _ h)
  have hl := lv_entry av (n := nL) hav
  rw [lg_entry_eq]
  exact body p e s m below meth c _ ⟨⟨B.exec, B.bytes, hml, findClass_of_methodNamed B.named, hts⟩, B.returns, B.notSynchronized, hK⟩ hsz ⟨hP, hD0.self, va_S.rf, fun q h => Or.inr (by rw [← hsz]; exact h)⟩ hl
theorem k_get (X : kX p s m args meth c cc nL own ret D cl tys) (h : kH D cl A H0 H locs ws) {C : String} {T : u_T} {N ci index : Nat} (hin : ∀ w ∈ u_ws C T N, w ∈ lw_all) (q0 : Nat) {fs : List Value} (he : ws[q0]? = some (a, .inr (ci, fs))) (hc : cl[ci]? = some (C, T, N)) (k : Nat) (hk : k < N) (hl : Cond.fieldLink own index (T k).1 (T k).2.1 (T k).2.2.1 ∈ lw_all) {v : Value} (hv : fs[k]? = some v) (hdg : decode cc pc = .ok (.getfield index, 3))
    (kk : W p l e R s m args below meth c H locs cells slots Q (F0 m (pc + 3) ls (v :: rest))) : W p l e R s m args below meth c H locs cells slots Q (F0 m pc ls (.ref a :: rest)) :=
  va_get X.1.1 X.1.2.1 X.1.2.2.2.2 hin X.1.2.2.2.1 X.2.2.2 h.1 q0 he hc k hk (X.1.2.2.2.2 _ hl) (fun _ h9 => h9) hv hdg kk
theorem k_put (X : kX p s m args meth c cc nL own ret D cl tys) (h : kH D cl A H0 H locs ws) {C : String} {T : u_T} {N ci index : Nat} (hin : ∀ w ∈ u_ws C T N, w ∈ lw_all) {ty0 : Nat → FieldType} (hty : ∀ k, k < N → parseFieldDescriptor (T k).2.2.1 = some (ty0 k)) (hnm : ∀ a, a < N → ∀ b, b < N → a ≠ b → (T a).2.1 ≠ (T b).2.1) (q0 : Nat) {fs : List Value} (he : ws[q0]? = some (a, .inr (ci, fs))) (hc : cl[ci]? = some (C, T, N)) (k : Nat) (hk : k < N) (hl : Cond.fieldLink own index (T k).1 (T k).2.1 (T k).2.2.1 ∈ lw_all) (hfin : (T k).2.2.2 = false) {ty : FieldType} {v : Value} (hd : ty0 k = ty) (hn : narrow ty v = v) (hfit : fits ty v = true) (hlen : k < fs.length)
    (hdg : decode cc pc = .ok (.putfield index, 3)) (hws : ws.set q0 (a, .inr (ci, fs.set k v)) = ws1) (kk : ∀ (H1 : Heap) (locs1 : List Loc), kH D cl A H0 H1 locs1 ws1 → W p l e R s m args below meth c H1 locs1 cells slots Q (F0 m (pc + 3) ls rest)) : W p l e R s m args below meth c H locs cells slots Q (F0 m pc ls (v :: .ref a :: rest)) := by
  subst hws
  exact va_put X.1.1 X.1.2.1 X.1.2.2.2.2 hin ty0 hty hnm X.1.2.2.2.1 X.2.2.2 h.1 h.2.1 h.2.2.1 q0 he hc k hk (X.1.2.2.2.2 _ hl) (fun _ h9 => h9) hfin ((hty k hk).trans (by rw [hd])) hn hfit hlen hdg (fun H1 l1 h1 h2 h3 => kk H1 l1 ⟨h1, h2, h3, h.2.2.2⟩)
theorem k_iald (X : kX p s m args meth c cc nL own ret D cl tys) (h : kH D cl A H0 H locs ws) (q0 t0 : Nat) {cA : ClassId} {n : Nat} {f : Nat → Int32} (ha : ws[q0]? = some (a, .inl (cA, n, .inl f))) (ht : tys[t0]? = some (cA, .int)) {i : Int32} (hin : vp_in i n) (hdg : decode cc pc = .ok (.iaload, 1))
    (kk : W p l e R s m args below meth c H locs cells slots Q (F0 m (pc + 1) ls (.int (f i.toNatClampNeg) :: rest))) : W p l e R s m args below meth c H locs cells slots Q (F0 m pc ls (.int i :: .ref a :: rest)) := va_iald X.1.1 X.1.2.1 X.2.2.2 h.1 q0 t0 ha ht hin hdg kk
theorem k_zald (X : kX p s m args meth c cc nL own ret D cl tys) (h : kH D cl A H0 H locs ws) (q0 t0 : Nat) {cA : ClassId} {n : Nat} {f : Nat → Int32} (ha : ws[q0]? = some (a, .inl (cA, n, .inl f))) (ht : tys[t0]? = some (cA, .boolean)) {i : Int32} (hin : vp_in i n) (hdg : decode cc pc = .ok (.baload, 1))
    (kk : W p l e R s m args below meth c H locs cells slots Q (F0 m (pc + 1) ls (.int (f i.toNatClampNeg) :: rest))) : W p l e R s m args below meth c H locs cells slots Q (F0 m pc ls (.int i :: .ref a :: rest)) := va_zald X.1.1 X.1.2.1 X.2.2.2 h.1 q0 t0 ha ht hin hdg kk
theorem k_bald (X : kX p s m args meth c cc nL own ret D cl tys) (h : kH D cl A H0 H locs ws) (q0 t0 : Nat) {cA : ClassId} {n : Nat} {f : Nat → Int32} (ha : ws[q0]? = some (a, .inl (cA, n, .inl f))) (ht : tys[t0]? = some (cA, .byte)) {i : Int32} (hin : vp_in i n) (hdg : decode cc pc = .ok (.baload, 1))
    (kk : W p l e R s m args below meth c H locs cells slots Q (F0 m (pc + 1) ls (.int (f i.toNatClampNeg) :: rest))) : W p l e R s m args below meth c H locs cells slots Q (F0 m pc ls (.int i :: .ref a :: rest)) := va_bald X.1.1 X.1.2.1 X.2.2.2 h.1 q0 t0 ha ht hin hdg kk
theorem k_lald (X : kX p s m args meth c cc nL own ret D cl tys) (h : kH D cl A H0 H locs ws) (q0 t0 : Nat) {cA : ClassId} {n : Nat} {f : Nat → Int64} (ha : ws[q0]? = some (a, .inl (cA, n, .inr (.inl f)))) (ht : tys[t0]? = some (cA, .long)) {i : Int32} (hin : vp_in i n) (hdg : decode cc pc = .ok (.laload, 1))
    (kk : W p l e R s m args below meth c H locs cells slots Q (F0 m (pc + 1) ls (.long (f i.toNatClampNeg) :: rest))) : W p l e R s m args below meth c H locs cells slots Q (F0 m pc ls (.int i :: .ref a :: rest)) := va_lald X.1.1 X.1.2.1 X.2.2.2 h.1 q0 t0 ha ht hin hdg kk
theorem k_iast (X : kX p s m args meth c cc nL own ret D cl tys) (h : kH D cl A H0 H locs ws) (q0 t0 : Nat) {cA : ClassId} {n : Nat} {f : Nat → Int32} (ha : ws[q0]? = some (a, .inl (cA, n, .inl f))) (ht : tys[t0]? = some (cA, .int)) {i x : Int32} (hin : vp_in i n) (hdg : decode cc pc = .ok (.iastore, 1)) {f' : Nat → Int32} (hf' : f' = upd f i.toNatClampNeg x) (hws : ws.set q0 (a, .inl (cA, n, .inl f')) = ws1)
    (kk : ∀ (H1 : Heap) (locs1 : List Loc), kH D cl A H0 H1 locs1 ws1 → W p l e R s m args below meth c H1 locs1 cells slots Q (F0 m (pc + 1) ls rest)) : W p l e R s m args below meth c H locs cells slots Q (F0 m pc ls (.int x :: .int i :: .ref a :: rest)) := by
  subst hf' hws
  exact va_iast X.1.1 X.1.2.1 X.2.2.2 h.1 h.2.1 h.2.2.1 q0 t0 ha ht hin hdg (fun H1 l1 h1 h2 h3 => kk H1 l1 ⟨h1, h2, h3, h.2.2.2⟩)
theorem k_zast (X : kX p s m args meth c cc nL own ret D cl tys) (h : kH D cl A H0 H locs ws) (q0 t0 : Nat) {cA : ClassId} {n : Nat} {f : Nat → Int32} (ha : ws[q0]? = some (a, .inl (cA, n, .inl f))) (ht : tys[t0]? = some (cA, .boolean)) {i x : Int32} (hin : vp_in i n) (hdg : decode cc pc = .ok (.bastore, 1)) {f' : Nat → Int32} (hf' : f' = upd f i.toNatClampNeg (vp_nar .boolean x)) (hws : ws.set q0 (a, .inl (cA, n, .inl f')) = ws1)
    (kk : ∀ (H1 : Heap) (locs1 : List Loc), kH D cl A H0 H1 locs1 ws1 → W p l e R s m args below meth c H1 locs1 cells slots Q (F0 m (pc + 1) ls rest)) : W p l e R s m args below meth c H locs cells slots Q (F0 m pc ls (.int x :: .int i :: .ref a :: rest)) := by
  subst hf' hws
  exact va_zast X.1.1 X.1.2.1 X.2.2.2 h.1 h.2.1 h.2.2.1 q0 t0 ha ht hin hdg (fun H1 l1 h1 h2 h3 => kk H1 l1 ⟨h1, h2, h3, h.2.2.2⟩)
theorem k_bast (X : kX p s m args meth c cc nL own ret D cl tys) (h : kH D cl A H0 H locs ws) (q0 t0 : Nat) {cA : ClassId} {n : Nat} {f : Nat → Int32} (ha : ws[q0]? = some (a, .inl (cA, n, .inl f))) (ht : tys[t0]? = some (cA, .byte)) {i x : Int32} (hin : vp_in i n) (hdg : decode cc pc = .ok (.bastore, 1)) {f' : Nat → Int32} (hf' : f' = upd f i.toNatClampNeg (vp_nar .byte x)) (hws : ws.set q0 (a, .inl (cA, n, .inl f')) = ws1)
    (kk : ∀ (H1 : Heap) (locs1 : List Loc), kH D cl A H0 H1 locs1 ws1 → W p l e R s m args below meth c H1 locs1 cells slots Q (F0 m (pc + 1) ls rest)) : W p l e R s m args below meth c H locs cells slots Q (F0 m pc ls (.int x :: .int i :: .ref a :: rest)) := by
  subst hf' hws
  exact va_bast X.1.1 X.1.2.1 X.2.2.2 h.1 h.2.1 h.2.2.1 q0 t0 ha ht hin hdg (fun H1 l1 h1 h2 h3 => kk H1 l1 ⟨h1, h2, h3, h.2.2.2⟩)
theorem k_last (X : kX p s m args meth c cc nL own ret D cl tys) (h : kH D cl A H0 H locs ws) (q0 t0 : Nat) {cA : ClassId} {n : Nat} {f : Nat → Int64} (ha : ws[q0]? = some (a, .inl (cA, n, .inr (.inl f)))) (ht : tys[t0]? = some (cA, .long)) {i : Int32} {x : Int64} (hin : vp_in i n) (hdg : decode cc pc = .ok (.lastore, 1)) {f' : Nat → Int64} (hf' : f' = vp_updL f i.toNatClampNeg x) (hws : ws.set q0 (a, .inl (cA, n, .inr (.inl f'))) = ws1)
    (kk : ∀ (H1 : Heap) (locs1 : List Loc), kH D cl A H0 H1 locs1 ws1 → W p l e R s m args below meth c H1 locs1 cells slots Q (F0 m (pc + 1) ls rest)) : W p l e R s m args below meth c H locs cells slots Q (F0 m pc ls (.long x :: .int i :: .ref a :: rest)) := by
  subst hf' hws
  exact va_last X.1.1 X.1.2.1 X.2.2.2 h.1 h.2.1 h.2.2.1 q0 t0 ha ht hin hdg (fun H1 l1 h1 h2 h3 => kk H1 l1 ⟨h1, h2, h3, h.2.2.2⟩)
theorem k_alen (X : kX p s m args meth c cc nL own ret D cl tys) (h : kH D cl A H0 H locs ws) (q0 t0 : Nat) {cA : ClassId} {x : vp_A} (ha : ws[q0]? = some (a, .inl (cA, x))) {ty : FieldType} (ht : tys[t0]? = some (cA, ty)) {v : Int32} (hv : Int32.ofNat x.1 = v) (hdg : decode cc pc = .ok (.arraylength, 1))
    (kk : W p l e R s m args below meth c H locs cells slots Q (F0 m (pc + 1) ls (.int v :: rest))) : W p l e R s m args below meth c H locs cells slots Q (F0 m pc ls (.ref a :: rest)) := va_alen X.1.1 X.1.2.1 X.2.2.2 h.1 q0 t0 ha ht hv hdg kk
-- ends
theorem k_iret {S : Type} {post : Int32 → S → Prop} {wf : S → va_W} {v : Int32} {ty : FieldType} (X : kX p s m args meth c cc nL own (some ty) D cl tys) (h : kH D cl A s.heap H locs ws) (u : S) (hp : post v u) (hws : wf u = ws) (hn : narrow ty (.int v) = .int v) (hdg : decode cc pc = .ok (.ireturn, 1)) : W p l e R s m args below meth c H locs cells slots (MQ below (va_Qi post (kB D cl tys A wf) A) args s cells slots A) (F0 m pc ls [.int v]) := by
  subst hws
  exact W.zret (v := v) X.1.1 X.1.2.1 X.2.1 hn (fun t ht hW => ⟨⟨v, u, rfl, hp, by rw [ht]; exact h.1, va_K.moved hW.alike X.2.2.2, h.2.1⟩, h.2.2.1.F ht⟩) h.2.2.1.2.2 hdg X.2.2.1
theorem k_lret {S : Type} {post : Int64 → S → Prop} {wf : S → va_W} {v : Int64} (X : kX p s m args meth c cc nL own (some .long) D cl tys) (h : kH D cl A s.heap H locs ws) (u : S) (hp : post v u) (hws : wf u = ws) (hdg : decode cc pc = .ok (.lreturn, 1)) : W p l e R s m args below meth c H locs cells slots (MQ below (va_Ql post (kB D cl tys A wf) A) args s cells slots A) (F0 m pc ls [.long v]) := by
  subst hws
  exact W.lret (v := v) X.1.1 X.1.2.1 X.2.1 (fun t ht hW => ⟨⟨v, u, rfl, hp, by rw [ht]; exact h.1, va_K.moved hW.alike X.2.2.2, h.2.1⟩, h.2.2.1.F ht⟩) h.2.2.1.2.2 hdg X.2.2.1
theorem k_vret {S : Type} {post : S → Prop} {wf : S → va_W} (X : kX p s m args meth c cc nL own none D cl tys) (h : kH D cl A s.heap H locs ws) (u : S) (hp : post u) (hws : wf u = ws) (hdg : decode cc pc = .ok (.return_, 1)) : W p l e R s m args below meth c H locs cells slots (MQ below (va_Qv post (kB D cl tys A wf) A) args s cells slots A) (F0 m pc ls []) := by
  subst hws
  exact W.vret X.1.1 X.1.2.1 X.2.1 (fun t ht hW => ⟨⟨u, rfl, hp, by rw [ht]; exact h.1, va_K.moved hW.alike X.2.2.2, h.2.1⟩, h.2.2.1.F ht⟩) h.2.2.1.2.2 hdg X.2.2.1
end KR
/-! calls: the callee's world is ours (0), or the part of ours at the places isC (1), the rest at isR stays -/
theorem k_fm {α β : Type} {f : α → Option β} : ∀ {is : List α} {w : List β}, is.map f = w.map some → is.filterMap f = w
  | [], [], _ => rfl
  | [], _ :: _, h => by simp at h
  | i :: is, [], h => by simp at h
  | i :: is, b :: w, h => by
    simp only [List.map_cons, List.cons.injEq] at h
    rw [List.filterMap_cons, h.1]
    simp only [k_fm h.2]
section KC
variable {p : Program} {l : Launch} {e : Env} {R : Room} {s : State} {m : MethodId} {args : Array Value} {below : List Frame} {meth : Method} {c : Code} {H : Heap} {locs : List Loc} {cells slots : Nat} {Q : State → Prop}
variable {cc : ByteArray} {pc nL : Nat} {ls : Array Slot} {rest st : List Value} {own : String} {ret : Option FieldType} {D : va_G} {cl : List vw_C} {tys tyc : List (ClassId × FieldType)} {A : Nat → Prop} {H0 : Heap} {ws wc wr : va_W} {b : Nat}
variable {y : MethodName} {bytes : ByteArray} {maxL n index : Nat} {rety : Option FieldType} {rm : Room} {Qc : Array Value → State → Outcome → State → Prop} {C : String} {As : List Value} {mc ms : Nat}
theorem k_free0 (h : kH D cl A H0 H locs ws) : ∀ q, va_A ws H.size q → A q := by
  rintro q (⟨k, e, hk⟩ | hq)
  · exact h.2.1.2 k _ hk
  · exact h.2.2.2 q (Nat.le_trans h.2.2.1.1 hq)
theorem k_runV (X : kX p s m args meth c cc nL own ret D cl tys) (hP : va_P D cl wc H) (hD : va_D A wc) (hK : va_K D cl tyc s) (hM : Met l y (ws_ y bytes maxL rety) rm (kPc D cl tyc (.ref b :: As) H.size wc) Qc mc ms (va_A wc H.size))
    (cw : CallW R s args own C index y bytes maxL rety (ws_ y bytes maxL rety) rm mc ms n) {ci q0 : Nat} {fs : List Value} {T : u_T} {N : Nat} (hc : cl[ci]? = some (C, T, N)) (he : wc[q0]? = some (b, .inr (ci, fs))) (hn : As.length = n) (hsize : ls.size = nL) (hst : st = As.reverse ++ .ref b :: rest) (hW : (rest.map fun v => v.category).sum ≤ 8) (hdg : decode cc pc = .ok (.invokevirtual index, 3)) (hf : cells + mc ≤ R.cells ∧ slots + ms ≤ R.slots) :
    va_Run p l e R s m args below meth c H locs cells slots mc ms (F0 m pc ls st) rest (Qc (Value.ref b :: As).toArray) (va_A wc H.size) := by
  subst hst
  exact va_runV X.1 hM cw ⟨kPc_blind, va_recv hK hP hc he, fun U hU hW => ⟨rfl, by rw [hU], by rw [hU]; exact hP, va_K.moved hW.alike hK, hD.weaken (fun _ _ _ _ => trivial)⟩⟩ rfl hn hsize rfl (lv_room hW) hdg hf
theorem k_runS (X : kX p s m args meth c cc nL own ret D cl tys) (hP : va_P D cl wc H) (hD : va_D A wc) (hK : va_K D cl tyc s) (hM : Met l y (ws_ y bytes maxL rety) rm (kPc D cl tyc As H.size wc) Qc mc ms (va_A wc H.size))
    (cw : CallB R s args own index y bytes maxL rety (ws_ y bytes maxL rety) rm mc ms n ∧ (Cond.static y).before args s = true) (hn : As.length = n) (hsize : ls.size = nL) (hst : st = As.reverse ++ rest) (hW : (rest.map fun v => v.category).sum ≤ 8) (hdg : decode cc pc = .ok (.invokestatic index, 3)) (hf : cells + mc ≤ R.cells ∧ slots + ms ≤ R.slots) :
    va_Run p l e R s m args below meth c H locs cells slots mc ms (F0 m pc ls st) rest (Qc As.toArray) (va_A wc H.size) := by
  subst hst
  exact va_runS X.1 hM cw ⟨kPc_blind, fun U hU hW => ⟨rfl, by rw [hU], by rw [hU]; exact hP, va_K.moved hW.alike hK, hD.weaken (fun _ _ _ _ => trivial)⟩⟩ rfl hn hsize rfl (lv_room hW) hdg hf
variable {ar : Array Value} {S : Type} {wf wf1 : S → va_W}
theorem k_i0 {post : Int32 → S → Prop} (h : kH D cl A H0 H locs ws) (hr : va_Run p l e R s m args below meth c H locs cells slots mc ms (F0 m pc ls st) rest (va_Qi post (kB D cl tyc (va_A ws H.size) wf) (va_A ws H.size) ar) (va_A ws H.size))
    (kk : ∀ (r : Int32) (u : S) (H1 : Heap) (locs1 : List Loc), post r u → kH D cl A H0 H1 locs1 (wf u) → W p l e R s m args below meth c H1 locs1 (cells + mc) (slots + ms) Q (F0 m (pc + 3) ls (.int r :: rest))) : W p l e R s m args below meth c H locs cells slots Q (F0 m pc ls st) := by
  have hF := k_free0 h
  refine va_calli hr h.2.2.1 (fun q _ z => hF q z) hF (fun r u t H1 locs1 ht hvm hp hB hz hk hS => ?_)
  subst ht
  exact kk r u t.heap locs1 hp ⟨hB.1, hB.2.2.weaken (fun _ _ _ z => hF _ z), hS, h.2.2.2⟩
/-- perm: the places in rest ++ callee's world of what makes the world behind the call -/
theorem k_i1 {post : Int32 → S → Prop} (h : kH D cl A H0 H locs ws) (isC isR perm : List Nat) (hC : isC.map (fun i => ws[i]?) = wc.map some) (hR : isR.map (fun i => ws[i]?) = wr.map some) (hn : va_nd isR = true) (hdis : ∀ i ∈ isR, i ∉ isC) (hpn : va_nd perm = true) (hpm : ∀ u : S, perm.map (fun i => (wr ++ wf u)[i]?) = (wf1 u).map some)
    (hr : va_Run p l e R s m args below meth c H locs cells slots mc ms (F0 m pc ls st) rest (va_Qi post (kB D cl tyc (va_A wc H.size) wf) (va_A wc H.size) ar) (va_A wc H.size))
    (kk : ∀ (r : Int32) (u : S) (H1 : Heap) (locs1 : List Loc), post r u → kH D cl A H0 H1 locs1 (wf1 u) → W p l e R s m args below meth c H1 locs1 (cells + mc) (slots + ms) Q (F0 m (pc + 3) ls (.int r :: rest))) : W p l e R s m args below meth c H locs cells slots Q (F0 m pc ls st) := by
  have hF : ∀ q, va_A wc H.size q → A q := va_free h.2.1 h.2.2.1 h.2.2.2 isC hC
  refine va_calli hr h.2.2.1 (fun q _ z => hF q z) hF (fun r u t H1 locs1 ht hvm hp hB hz hk hS => ?_)
  subst ht
  obtain ⟨jP, jD⟩ := va_join h.1 h.2.1 isC isR hC hR hn hdis hk hF hB.1 hB.2.2
  exact kk r u t.heap locs1 hp ⟨jP.sub perm (k_fm (hpm u)), jD.sub perm hpn (hpm u), hS, h.2.2.2⟩
theorem k_l0 {post : Int64 → S → Prop} (h : kH D cl A H0 H locs ws) (hr : va_Run p l e R s m args below meth c H locs cells slots mc ms (F0 m pc ls st) rest (va_Ql post (kB D cl tyc (va_A ws H.size) wf) (va_A ws H.size) ar) (va_A ws H.size))
    (kk : ∀ (r : Int64) (u : S) (H1 : Heap) (locs1 : List Loc), post r u → kH D cl A H0 H1 locs1 (wf u) → W p l e R s m args below meth c H1 locs1 (cells + mc) (slots + ms) Q (F0 m (pc + 3) ls (.long r :: rest))) : W p l e R s m args below meth c H locs cells slots Q (F0 m pc ls st) := by
  have hF := k_free0 h
  refine va_calll hr h.2.2.1 (fun q _ z => hF q z) hF (fun r u t H1 locs1 ht hvm hp hB hz hk hS => ?_)
  subst ht
  exact kk r u t.heap locs1 hp ⟨hB.1, hB.2.2.weaken (fun _ _ _ z => hF _ z), hS, h.2.2.2⟩
/-- perm: the places in rest ++ callee's world of what makes the world behind the call -/
theorem k_l1 {post : Int64 → S → Prop} (h : kH D cl A H0 H locs ws) (isC isR perm : List Nat) (hC : isC.map (fun i => ws[i]?) = wc.map some) (hR : isR.map (fun i => ws[i]?) = wr.map some) (hn : va_nd isR = true) (hdis : ∀ i ∈ isR, i ∉ isC) (hpn : va_nd perm = true) (hpm : ∀ u : S, perm.map (fun i => (wr ++ wf u)[i]?) = (wf1 u).map some)
    (hr : va_Run p l e R s m args below meth c H locs cells slots mc ms (F0 m pc ls st) rest (va_Ql post (kB D cl tyc (va_A wc H.size) wf) (va_A wc H.size) ar) (va_A wc H.size))
    (kk : ∀ (r : Int64) (u : S) (H1 : Heap) (locs1 : List Loc), post r u → kH D cl A H0 H1 locs1 (wf1 u) → W p l e R s m args below meth c H1 locs1 (cells + mc) (slots + ms) Q (F0 m (pc + 3) ls (.long r :: rest))) : W p l e R s m args below meth c H locs cells slots Q (F0 m pc ls st) := by
  have hF : ∀ q, va_A wc H.size q → A q := va_free h.2.1 h.2.2.1 h.2.2.2 isC hC
  refine va_calll hr h.2.2.1 (fun q _ z => hF q z) hF (fun r u t H1 locs1 ht hvm hp hB hz hk hS => ?_)
  subst ht
  obtain ⟨jP, jD⟩ := va_join h.1 h.2.1 isC isR hC hR hn hdis hk hF hB.1 hB.2.2
  exact kk r u t.heap locs1 hp ⟨jP.sub perm (k_fm (hpm u)), jD.sub perm hpn (hpm u), hS, h.2.2.2⟩
theorem k_v0 {post : S → Prop} (h : kH D cl A H0 H locs ws) (hr : va_Run p l e R s m args below meth c H locs cells slots mc ms (F0 m pc ls st) rest (va_Qv post (kB D cl tyc (va_A ws H.size) wf) (va_A ws H.size) ar) (va_A ws H.size))
    (kk : ∀ (u : S) (H1 : Heap) (locs1 : List Loc), post u → kH D cl A H0 H1 locs1 (wf u) → W p l e R s m args below meth c H1 locs1 (cells + mc) (slots + ms) Q (F0 m (pc + 3) ls rest)) : W p l e R s m args below meth c H locs cells slots Q (F0 m pc ls st) := by
  have hF := k_free0 h
  refine va_callv hr h.2.2.1 (fun q _ z => hF q z) hF (fun u t H1 locs1 ht hvm hp hB hz hk hS => ?_)
  subst ht
  exact kk u t.heap locs1 hp ⟨hB.1, hB.2.2.weaken (fun _ _ _ z => hF _ z), hS, h.2.2.2⟩
/-- perm: the places in rest ++ callee's world of what makes the world behind the call -/
theorem k_v1 {post : S → Prop} (h : kH D cl A H0 H locs ws) (isC isR perm : List Nat) (hC : isC.map (fun i => ws[i]?) = wc.map some) (hR : isR.map (fun i => ws[i]?) = wr.map some) (hn : va_nd isR = true) (hdis : ∀ i ∈ isR, i ∉ isC) (hpn : va_nd perm = true) (hpm : ∀ u : S, perm.map (fun i => (wr ++ wf u)[i]?) = (wf1 u).map some)
    (hr : va_Run p l e R s m args below meth c H locs cells slots mc ms (F0 m pc ls st) rest (va_Qv post (kB D cl tyc (va_A wc H.size) wf) (va_A wc H.size) ar) (va_A wc H.size))
    (kk : ∀ (u : S) (H1 : Heap) (locs1 : List Loc), post u → kH D cl A H0 H1 locs1 (wf1 u) → W p l e R s m args below meth c H1 locs1 (cells + mc) (slots + ms) Q (F0 m (pc + 3) ls rest)) : W p l e R s m args below meth c H locs cells slots Q (F0 m pc ls st) := by
  have hF : ∀ q, va_A wc H.size q → A q := va_free h.2.1 h.2.2.1 h.2.2.2 isC hC
  refine va_callv hr h.2.2.1 (fun q _ z => hF q z) hF (fun u t H1 locs1 ht hvm hp hB hz hk hS => ?_)
  subst ht
  obtain ⟨jP, jD⟩ := va_join h.1 h.2.1 isC isR hC hR hn hdis hk hF hB.1 hB.2.2
  exact kk u t.heap locs1 hp ⟨jP.sub perm (k_fm (hpm u)), jD.sub perm hpn (hpm u), hS, h.2.2.2⟩
end KC
