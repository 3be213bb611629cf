/-! BASE 4: small rows for the room printer -/
set_option maxRecDepth 100000
theorem p_lres {r : Option Nat} {b : Nat} {P : Value → Prop} (hr : r = some b) (h : P (va_rf r)) : P (.ref b) := by
  subst hr
  exact h
theorem p_nq {C : String} {r : Option Nat} : narrow (.object C) (va_rf r) = va_rf r := by cases r <;> rfl
theorem p_fq {C : String} {r : Option Nat} : fits (.object C) (va_rf r) = true := by cases r <;> rfl
theorem p_nqA {t : FieldType} {r : Option Nat} : narrow (.array t) (va_rf r) = va_rf r := by cases r <;> rfl
theorem p_fqA {t : FieldType} {r : Option Nat} : fits (.array t) (va_rf r) = true := by cases r <;> rfl
theorem p_df {N : Nat} {ty : Nat → FieldType} {fs : List Value} (h : (List.range N).map (fun j => defaultValue (ty j)) = fs) : ∀ j, j < N → defaultValue (ty j) = vp_V fs j := by
  intro j hj
  subst h
  simp [vp_V, List.getElem?_map, List.getElem?_range, hj]
section KP4
variable {Xw : va_W} {G : kGt} {p : Program} {l : Launch} {e : Env} {R : Room} {s : State} {m : MethodId} {args : Array Value} {below : List Frame} {meth : Method} {c : Code} {H : Heap} {locs : List Loc} {cells slots : Nat} {Q : State → Prop}
variable {cc : ByteArray} {pc nL : Nat} {ls : Array Slot} {rest st : List Value} {own : String} {ret : Option FieldType} {D : va_G} {cl : List vw_C} {tys : List (ClassId × FieldType)} {A : Nat → Prop} {H0 : Heap} {kd0 an0 kd an : Nat → Nat} {f : Nat → va_E} {a K : Nat}
theorem p_newi (X : kXp G p s m args meth c cc nL own ret D cl tys A) (h : kHp Xw D cl A H0 H locs kd0 an0 kd an f) (K : Nat) (hK : K ≠ 0) {atype : ArrayType} {ty : FieldType} (harr : Cond.arrayClass ty ∈ lw_all) (hty : newarray.typeOf atype = ty) (hdf : defaultValue ty = .int 0) {c0 : ClassId} (t0 : Nat) (ht : tys[t0]? = some (c0, ty)) {n : Int32} {N : Nat} (hn : ¬ n < 0) (hN : n.toNatClampNeg = N) (hbytes : N * componentBytes ty ≤ 536870912) (hcells : cells + 1 ≤ R.cells) (hslots : slots + N ≤ R.slots) (hdg : decode cc pc = .ok (.newarray atype, 2)) {f1 : Nat → Nat → va_E} (hf1 : ∀ q, va_up f q (.inl (c0, N, .inl (fun _ => 0))) = f1 q)
    (kk : ∀ (q : Nat) (H1 : Heap), kd q = 0 → kHp Xw D cl A H0 H1 locs kd0 an0 (va_up kd q K) (va_up an q N) (f1 q) → W p l e R s m args below meth c H1 locs (cells + 1) (slots + N) Q (F0 m (pc + 2) ls (.ref q :: rest))) : W p l e R s m args below meth c H locs cells slots Q (F0 m pc ls (.int n :: rest)) := by
  subst hN
  exact p_newa X h K hK harr hty t0 ht (fun cA => by rw [hdf]; rfl) hn hbytes hcells hslots hdg hf1 kk
theorem p_newl (X : kXp G p s m args meth c cc nL own ret D cl tys A) (h : kHp Xw D cl A H0 H locs kd0 an0 kd an f) (K : Nat) (hK : K ≠ 0) {atype : ArrayType} {ty : FieldType} (harr : Cond.arrayClass ty ∈ lw_all) (hty : newarray.typeOf atype = ty) (hdf : defaultValue ty = .long 0) {c0 : ClassId} (t0 : Nat) (ht : tys[t0]? = some (c0, ty)) {n : Int32} {N : Nat} (hn : ¬ n < 0) (hN : n.toNatClampNeg = N) (hbytes : N * componentBytes ty ≤ 536870912) (hcells : cells + 1 ≤ R.cells) (hslots : slots + N ≤ R.slots) (hdg : decode cc pc = .ok (.newarray atype, 2)) {f1 : Nat → Nat → va_E} (hf1 : ∀ q, va_up f q (.inl (c0, N, .inr (.inl (fun _ => 0)))) = f1 q)
    (kk : ∀ (q : Nat) (H1 : Heap), kd q = 0 → kHp Xw D cl A H0 H1 locs kd0 an0 (va_up kd q K) (va_up an q N) (f1 q) → W p l e R s m args below meth c H1 locs (cells + 1) (slots + N) Q (F0 m (pc + 2) ls (.ref q :: rest))) : W p l e R s m args below meth c H locs cells slots Q (F0 m pc ls (.int n :: rest)) := by
  subst hN
  exact p_newa X h K hK harr hty t0 ht (fun cA => by rw [hdf]; rfl) hn hbytes hcells hslots hdg hf1 kk
theorem p_newr (X : kXp G p s m args meth c cc nL own ret D cl tys A) (h : kHp Xw D cl A H0 H locs kd0 an0 kd an f) (K : Nat) (hK : K ≠ 0) {C : String} {index : Nat} (hcl : Cond.classLink own index C ∈ lw_all) (hao : Cond.arrayOver (.object C) ∈ lw_tbl) {c0 : ClassId} (t0 : Nat) (ht : tys[t0]? = some (c0, .object C)) {n : Int32} {N : Nat} (hn : ¬ n < 0) (hN : n.toNatClampNeg = N) (hbytes : N * 4 ≤ 536870912) (hcells : cells + 1 ≤ R.cells) (hslots : slots + N ≤ R.slots) (hdg : decode cc pc = .ok (.anewarray index, 3)) {f1 : Nat → Nat → va_E} (hf1 : ∀ q, va_up f q (.inl (c0, N, .inr (.inr (.inr (.inr (fun _ => none)))))) = f1 q)
    (kk : ∀ (q : Nat) (H1 : Heap), kd q = 0 → kHp Xw D cl A H0 H1 locs kd0 an0 (va_up kd q K) (va_up an q N) (f1 q) → W p l e R s m args below meth c H1 locs (cells + 1) (slots + N) Q (F0 m (pc + 3) ls (.ref q :: rest))) : W p l e R s m args below meth c H locs cells slots Q (F0 m pc ls (.int n :: rest)) := by
  subst hN
  exact p_newq X h K hK hcl hao t0 ht hn hbytes hcells hslots hdg hf1 kk
end KP4
