/-! BASE 24: constructors of fixed-shape classes: a block of the world that grows -/
section KC24
variable {G : kGt} {p : Program} {l : Launch} {e : Env} {R : Room} {s : State} {m : MethodId} {args : Array Value} {below : List Frame} {meth : Method} {c : Code} {H : Heap} {locs : List Loc} {cells slots : Nat} {Q : State → Prop}
variable {cc : ByteArray} {pc nL : Nat} {ls : Array Slot} {rest : List Value} {own : String} {ret : Option FieldType} {D : va_G} {cl : List vw_C} {tys : List (ClassId × FieldType)} {A : Nat → Prop} {H0 : Heap} {ws ws1 : va_W} {a : Nat}
theorem c_enter {y : MethodName} {rm : Room} {av : List Value} {sz : Nat} {w : va_W} {Qc : Array Value → State → Outcome → State → Prop} {mc ms : Nat} {free : Addr → Prop} (hG : kGok G) (hy : plainName y.cls = true) (hav : (lg_sl av).length ≤ nL)
    (body : ∀ (p : Program) (e : Env) (s : State) (m : MethodId) (below : List Frame) (meth : Method) (c : Code) (ls : Array Slot), kXp G p s m av.toArray meth c cc nL y.cls ret D cl tys (va_A w sz) → meth.name = y.name → s.heap.size = sz → kH D cl (va_A w sz) s.heap s.heap [] w → lv_has ls nL (lv_args 0 av) →
      W p l e rm s m av.toArray below meth c s.heap [] 0 0 (MQ below Qc av.toArray s mc ms free) (F0 m 0 ls [])) : Met l y (ws_ y cc nL ret) rm (kPq G D cl tys av sz w) Qc mc ms free := by
  refine Met.ofW (cc := cc) (maxL := nL) (ret := ret) hy rfl ?_
  intro p e s m args below meth c s₁ B hml hv
  obtain ⟨rfl, hsz, hP, hK, hD0, hN, hGs⟩ := hv
  have hts := atoms_spec (ws := ws_ y cc nL ret) B.pre
  have hts : ∀ w ∈ lw_all, w.before _ s = true := fun w h => hts w (List.mem_cons_of_mem _ h)
  have hl := lv_entry av (n := nL) hav
  rw [lg_entry_eq]
  exact body p e s m below meth c _ ⟨⟨⟨B.exec, B.bytes, hml, findClass_of_methodNamed B.named, hts⟩, B.returns, B.notSynchronized, hK⟩, hN, hG, hGs, hml⟩ (name_of_methodNamed B.named B.method).1 hsz ⟨hP, hD0.self, va_S.rf, fun q h => Or.inr (by rw [← hsz]; exact h)⟩ hl
theorem c_putF (X : kXp G p s m args meth c cc nL own ret D cl tys A) (h : kH D cl A H0 H locs ws) {C : String} {T : u_T} {N ci index : Nat} (hin : ∀ w ∈ u_ws C T N, w ∈ lw_all) {ty0 : Nat → FieldType} (hty : ∀ k, k < N → parseFieldDescriptor (T k).2.2.1 = some (ty0 k)) (hnm : ∀ a, a < N → ∀ b, b < N → a ≠ b → (T a).2.1 ≠ (T b).2.1) (q0 : Nat) {fs : List Value} (he : ws[q0]? = some (a, .inr (ci, fs))) (hc : cl[ci]? = some (C, T, N)) (k : Nat) (hk : k < N) (hl : Cond.fieldLink own index (T k).1 (T k).2.1 (T k).2.2.1 ∈ lw_all) (hfin : (T k).2.2.2 = true) (hmn : meth.name = "<init>") (hown : (T k).1 = own) {ty : FieldType} {v : Value} (hd : ty0 k = ty) (hn : narrow ty v = v) (hfit : fits ty v = true) (hlen : k < fs.length)
    (hdg : decode cc pc = .ok (.putfield index, 3)) (hws : ws.set q0 (a, .inr (ci, fs.set k v)) = ws1) (kk : ∀ (H1 : Heap) (locs1 : List Loc), kH D cl A H0 H1 locs1 ws1 → W p l e R s m args below meth c H1 locs1 cells slots Q (F0 m (pc + 3) ls rest)) : W p l e R s m args below meth c H locs cells slots Q (F0 m pc ls (v :: .ref a :: rest)) := by
  subst hws
  exact va_putF X.1.1.1 X.1.1.2.1 X.1.1.2.2.2.2 hin ty0 hty hnm X.1.1.2.2.2.1 X.1.2.2.2 h.1 h.2.1 h.2.2.1 q0 he hc k hk (X.1.1.2.2.2.2 _ hl) (fun _ h9 => h9) hfin hmn hown ((hty k hk).trans (by rw [hd])) hn hfit hlen hdg (fun H1 l1 h1 h2 h3 => kk H1 l1 ⟨h1, h2, h3, h.2.2.2⟩)
theorem c_newa (X : kXp G p s m args meth c cc nL own ret D cl tys A) (h : kH D cl A H0 H locs ws) {atype : ArrayType} {ty : FieldType} (harr : Cond.arrayClass ty ∈ lw_all) (hty : newarray.typeOf atype = ty) {c0 : ClassId} (t0 : Nat) (ht : tys[t0]? = some (c0, ty)) {n : Int32} {ct : (Nat → Int32) ⊕ ((Nat → Int64) ⊕ ((Nat → UInt32) ⊕ ((Nat → UInt64) ⊕ (Nat → Option Nat))))} (ha : ∀ cA : ClassId, vp_cell cA (n.toNatClampNeg, ct) = arrV cA n.toNatClampNeg (fun _ => defaultValue ty)) (hn : ¬ n < 0) (hbytes : n.toNatClampNeg * componentBytes ty ≤ 536870912) (hcells : cells + 1 ≤ R.cells) (hslots : slots + n.toNatClampNeg ≤ R.slots) (hdg : decode cc pc = .ok (.newarray atype, 2)) {f1 : Nat → va_W} (hf1 : ∀ q, ws ++ [(q, .inl (c0, n.toNatClampNeg, ct))] = f1 q)
    (kk : ∀ (q : Nat) (H1 : Heap), kH D cl A H0 H1 locs (f1 q) → W p l e R s m args below meth c H1 locs (cells + 1) (slots + n.toNatClampNeg) Q (F0 m (pc + 2) ls (.ref q :: rest))) : W p l e R s m args below meth c H locs cells slots Q (F0 m pc ls (.int n :: rest)) := by
  refine va_newa X.1.1.1 X.1.1.2.1 (by rw [hty]; exact X.1.1.2.2.2.2 _ harr) hty X.1.2.2.2 h.1 h.2.1 h.2.2.1 h.2.2.2 ha hn rfl hbytes hcells hslots hdg (fun q cA H1 hK1 h1 h2 h3 => ?_)
  have e1 := (hK1.2 tys.length (cA, ty) (by rw [List.getElem?_append_right (Nat.le_refl _), Nat.sub_self]; rfl)).2
  have e2 := (X.1.2.2.2.2 t0 _ ht).2
  have e3 : cA = c0 := p_cA e1 e2
  subst e3
  refine kk q H1 ?_
  rw [← hf1 q]
  exact ⟨h1, h2, h3, h.2.2.2⟩
theorem c_newi (X : kXp G p s m args meth c cc nL own ret D cl tys A) (h : kH D cl A H0 H locs ws) {atype : ArrayType} {ty : FieldType} (harr : Cond.arrayClass ty ∈ lw_all) (hty : newarray.typeOf atype = ty) (hdf : defaultValue ty = .int 0) {c0 : ClassId} (t0 : Nat) (ht : tys[t0]? = some (c0, ty)) {n : Int32} {N : Nat} (hn : ¬ n < 0) (hN : n.toNatClampNeg = N) (hbytes : N * componentBytes ty ≤ 536870912) (hcells : cells + 1 ≤ R.cells) (hslots : slots + N ≤ R.slots) (hdg : decode cc pc = .ok (.newarray atype, 2)) {f1 : Nat → va_W} (hf1 : ∀ q, ws ++ [(q, .inl (c0, N, .inl (fun _ => 0)))] = f1 q)
    (kk : ∀ (q : Nat) (H1 : Heap), kH D cl A H0 H1 locs (f1 q) → W p l e R s m args below meth c H1 locs (cells + 1) (slots + N) Q (F0 m (pc + 2) ls (.ref q :: rest))) : W p l e R s m args below meth c H locs cells slots Q (F0 m pc ls (.int n :: rest)) := by
  subst hN
  exact c_newa X h harr hty t0 ht (fun cA => by rw [hdf]; rfl) hn hbytes hcells hslots hdg hf1 kk
theorem c_newl (X : kXp G p s m args meth c cc nL own ret D cl tys A) (h : kH D cl A H0 H locs ws) {atype : ArrayType} {ty : FieldType} (harr : Cond.arrayClass ty ∈ lw_all) (hty : newarray.typeOf atype = ty) (hdf : defaultValue ty = .long 0) {c0 : ClassId} (t0 : Nat) (ht : tys[t0]? = some (c0, ty)) {n : Int32} {N : Nat} (hn : ¬ n < 0) (hN : n.toNatClampNeg = N) (hbytes : N * componentBytes ty ≤ 536870912) (hcells : cells + 1 ≤ R.cells) (hslots : slots + N ≤ R.slots) (hdg : decode cc pc = .ok (.newarray atype, 2)) {f1 : Nat → va_W} (hf1 : ∀ q, ws ++ [(q, .inl (c0, N, .inr (.inl (fun _ => 0))))] = f1 q)
    (kk : ∀ (q : Nat) (H1 : Heap), kH D cl A H0 H1 locs (f1 q) → W p l e R s m args below meth c H1 locs (cells + 1) (slots + N) Q (F0 m (pc + 2) ls (.ref q :: rest))) : W p l e R s m args below meth c H locs cells slots Q (F0 m pc ls (.int n :: rest)) := by
  subst hN
  exact c_newa X h harr hty t0 ht (fun cA => by rw [hdf]; rfl) hn hbytes hcells hslots hdg hf1 kk
theorem c_vret {mc ms : Nat} {J : va_W → Prop} (X : kXp G p s m args meth c cc nL own none D cl tys A) (h : kH D cl A s.heap H locs ws) (hc1 : cells ≤ mc) (hc2 : slots ≤ ms) (hJ : J ws) (hdg : decode cc pc = .ok (.return_, 1)) : W p l e R s m args below meth c H locs cells slots (MQ below (va_Qv (fun w' => J w') (kBq D cl A) A) args s mc ms A) (F0 m pc ls []) :=
  W.widen hc1 hc2 (W.vret X.1.1.1 X.1.1.2.1 X.1.2.1 (fun t ht hW => ⟨⟨ws, rfl, hJ, by unfold kBq; rw [ht]; exact ⟨h.1, h.2.1⟩⟩, h.2.2.1.F ht⟩) h.2.2.1.2.2 hdg X.1.2.2.1)
end KC24
