/-! BASE 2: a pool world: cells by a function f over the addresses of a kind (kd a ≠ 0); its list of addresses is hidden -/
set_option maxRecDepth 100000
def kOn (r : Option Nat) (P : Nat → Prop) : Prop := ∃ b, r = some b ∧ P b
theorem kOn_some {a : Nat} {P : Nat → Prop} (h : P a) : kOn (some a) P := ⟨a, rfl, h⟩
theorem kOn_of {r : Option Nat} {a : Nat} {P : Nat → Prop} (e : r = some a) (h : P a) : kOn r P := ⟨a, e, h⟩
/-- owned cells keep their kind and length -/
def kLe (kd an kd' an' : Nat → Nat) : Prop := ∀ a, kd a ≠ 0 → kd' a = kd a ∧ an' a = an a
theorem kLe.rf {kd an : Nat → Nat} : kLe kd an kd an := fun _ _ => ⟨rfl, rfl⟩
theorem kLe.tr {k1 a1 k2 a2 k3 a3 : Nat → Nat} (h : kLe k1 a1 k2 a2) (h' : kLe k2 a2 k3 a3) : kLe k1 a1 k3 a3 := fun a ha => by
  have e := h a ha
  have e' := h' a (by rw [e.1]; exact ha)
  exact ⟨e'.1.trans e.1, e'.2.trans e.2⟩
theorem kLe.kd {kd an kd' an' : Nat → Nat} (h : kLe kd an kd' an') {a K : Nat} (e : kd a = K) (hK : K ≠ 0) : kd' a = K := by rw [(h a (by rw [e]; exact hK)).1]; exact e
theorem kLe.an {kd an kd' an' : Nat → Nat} (h : kLe kd an kd' an') {a K : Nat} (e : kd a = K) (hK : K ≠ 0) : an' a = an a := (h a (by rw [e]; exact hK)).2
theorem kLe.ne {kd an : Nat → Nat} {a q K : Nat} (e : kd a = K) (hK : K ≠ 0) (hq : kd q = 0) : a ≠ q := fun z => hK (by rw [← e, z, hq])
theorem kLe.new {kd an : Nat → Nat} {q K : Nat} (hq : kd q = 0) : kLe kd an (va_up kd q K) an := fun a ha => ⟨va_up_ne _ _ (fun z => ha (by rw [z]; exact hq)), rfl⟩
theorem kLe.newa {kd an : Nat → Nat} {q K n : Nat} (hq : kd q = 0) : kLe kd an (va_up kd q K) (va_up an q n) := fun a ha => ⟨va_up_ne _ _ (fun z => ha (by rw [z]; exact hq)), va_up_ne _ _ (fun z => ha (by rw [z]; exact hq))⟩
def kDom (L : List Nat) (kd : Nat → Nat) : Prop := ∀ a, a ∈ L ↔ kd a ≠ 0
theorem kDom.new {L : List Nat} {kd : Nat → Nat} {q K : Nat} (h : kDom L kd) (hK : K ≠ 0) : kDom (L ++ [q]) (va_up kd q K) := fun a => by
  simp only [List.mem_append, List.mem_singleton, va_up]
  by_cases e : a = q
  · subst e; simp [hK]
  · simp [e, h a]
/-- words of the tables that ride in no list: nest mates' links, casts, arrays over classes -/
def kW : Cond → Bool
  | .fieldLinkNest .. => true
  | .methodLinkNest .. => true
  | .castable .. => true
  | .declares .. => true
  | .arrayOver (.object _) => true
  | _ => false
def kN (U : State) : Prop := ∀ w ∈ lw_tbl, kW w = true → va_Nw w U
theorem kW_tab {w : Cond} (h : kW w = true) : w.onTables = true ∨ ∃ C, w = .arrayOver (.object C) := by
  cases w with
  | fieldLinkNest a i b n d hh => exact Or.inl rfl
  | methodLinkNest a i x hh => exact Or.inl rfl
  | castable C T => exact Or.inl rfl
  | declares x => exact Or.inl rfl
  | arrayOver t =>
    cases t with
    | object C => exact Or.inr ⟨C, rfl⟩
    | _ => cases h
  | _ => cases h
theorem kN.same {u U : State} (h : u.vm = U.vm) (hN : kN u) : kN U := fun w hw hk => by
  rcases kW_tab hk with hz | ⟨C, rfl⟩
  · exact va_Nw.same hz h (hN w hw hk)
  · exact va_AO.moved (h ▸ Vm.Alike.refl u.vm) (hN _ hw hk)
theorem kN.warm {s U : State} (hW : s.WarmedH U.vm) (hN : kN s) : kN U := fun w hw hk => by
  have h := hN w hw hk
  cases w with
  | fieldLinkNest a i b n d hh => exact va_Nw.warmF hW h
  | methodLinkNest a i x hh => exact va_Nw.warmM hW h
  | castable C T => exact va_Nw.warmC hW h
  | declares x => exact va_Nw.warmD hW h
  | arrayOver t =>
    cases t with
    | object C => exact va_AO.moved hW.alike h
    | _ => cases hk
  | _ => cases hk
theorem kN.use {s : State} {args : Array Value} (hN : kN s) {w : Cond} (hw : w ∈ lw_tbl) (hk : kW w = true) : w.before args s = true := by
  rcases kW_tab hk with hz | ⟨C, rfl⟩
  · exact va_Nw.use hz (hN w hw hk)
  · exact va_AO.use (hN _ hw hk)
/-- what is told of the cells outside (statics, constants): it stays as long as nothing outside A changes -/
abbrev kGt : Type := (Nat → Prop) → State → Heap → Prop
def kGok (G : kGt) : Prop := ∀ (A A' : Nat → Prop) (s U : State) (H H' : Heap), s.WarmedH U.vm → G A s H → (∀ q, q < H.size → A' q → A q) → (∀ q, q < H.size → ¬ A q → H'[q]? = H[q]?) → G A' U H'
def kXp (G : kGt) (p : Program) (s : State) (m : MethodId) (args : Array Value) (meth : Method) (c : Code) (cc : ByteArray) (nL : Nat) (own : String) (ret : Option FieldType) (D : va_G) (cl : List vw_C) (tys : List (ClassId × FieldType)) (A : Nat → Prop) : Prop :=
  kX p s m args meth c cc nL own ret D cl tys ∧ kN s ∧ kGok G ∧ G A s s.heap ∧ c.maxLocals = nL
def kHp (Xw : va_W) (D : va_G) (cl : List vw_C) (A : Nat → Prop) (H0 H : Heap) (locs : List Loc) (kd0 an0 kd an : Nat → Nat) (f : Nat → va_E) : Prop :=
  kLe kd0 an0 kd an ∧ ∃ L : List Nat, kDom L kd ∧ kH D cl A H0 H locs (Xw ++ va_pl L f)
def kPp (Xw : va_W) (G : kGt) (D : va_G) (cl : List vw_C) (tys : List (ClassId × FieldType)) (av : List Value) (sz : Nat) (L : List Nat) (f : Nat → va_E) : Array Value → State → Prop :=
  va_Pc av (fun U => U.heap.size = sz ∧ va_P D cl (Xw ++ va_pl L f) U.heap ∧ va_K D cl tys U ∧ va_D (fun _ => True) (Xw ++ va_pl L f) ∧ kN U ∧ G (va_A (Xw ++ va_pl L f) sz) U U.heap)
/-- the world behind it: kd, an, f out of the state u -/
def kBp {S : Type} (Xw : va_W) (D : va_G) (cl : List vw_C) (A : Nat → Prop) (kd0 an0 : Nat → Nat) (fk : S → (Nat → Nat) × (Nat → Nat) × (Nat → va_E)) (u : S) (t : State) : Prop :=
  kLe kd0 an0 (fk u).1 (fk u).2.1 ∧ ∃ L : List Nat, kDom L (fk u).1 ∧ va_P D cl (Xw ++ va_pl L (fk u).2.2) t.heap ∧ va_D A (Xw ++ va_pl L (fk u).2.2)
theorem kPp_blind {Xw : va_W} {G : kGt} (hG : kGok G) {D : va_G} {cl : List vw_C} {tys : List (ClassId × FieldType)} {av : List Value} {sz : Nat} {L : List Nat} {f : Nat → va_E} : FrameBlind (kPp Xw G D cl tys av sz L f) := by
  intro a U g mk q
  obtain ⟨q0, q1, qP, qK, qD, qN, qG⟩ := q
  exact ⟨q0, q1, qP, va_K.moved (u := U) (U := U.calling g mk a) (Vm.Alike.refl U.vm) qK, qD, kN.same (u := U) (U := U.calling g mk a) rfl qN, hG _ _ U (U.calling g mk a) U.heap U.heap (State.WarmedH.refl U) qG (fun _ _ h => h) (fun _ _ _ => rfl)⟩
section KP
variable {Xw : va_W} {G : kGt} {p : Program} {l : Launch} {e : Env} {R : Room} {s : State} {m : MethodId} {args : Array Value} {below : List Frame} {meth : Method} {c : Code} {H : Heap} {locs : List Loc} {cells slots : Nat} {Q : State → Prop}
variable {cc : ByteArray} {pc nL : Nat} {ls : Array Slot} {rest : List Value} {own : String} {ret : Option FieldType} {D : va_G} {cl : List vw_C} {tys : List (ClassId × FieldType)} {A : Nat → Prop} {H0 : Heap} {kd0 an0 kd an : Nat → Nat} {f f1 : Nat → va_E} {a K : Nat}
theorem p_enter {y : MethodName} {rm : Room} {av : List Value} {sz : Nat} {L : List Nat} {Qc : Array Value → State → Outcome → State → Prop} {mc ms : Nat} {free : Addr → Prop} (hG : kGok G) (hy : plainName y.cls = true) (hav : (lg_sl av).length ≤ nL) (hL : kDom L kd)
    (body : ∀ (p : Program) (e : Env) (s : State) (m : MethodId) (below : List Frame) (meth : Method) (c : Code) (ls : Array Slot), kXp G p s m av.toArray meth c cc nL y.cls ret D cl tys (va_A (Xw ++ va_pl L f) sz) → meth.name = y.name → s.heap.size = sz → kHp Xw D cl (va_A (Xw ++ va_pl L f) sz) s.heap s.heap [] kd an kd an f → lv_has ls nL (lv_args 0 av) →
      W p l e rm s m av.toArray below meth c s.heap [] 0 0 (MQ below Qc av.toArray s mc ms free) (F0 m 0 ls [])) : Met l y (ws_ y cc nL ret) rm (kPp Xw G D cl tys av sz L f) Qc mc ms free := by
  refine Met.ofW (cc := cc) (maxL := nL) (ret := ret) hy rfl ?_
  intro p e s m args below meth c s₁ B hml hv
  obtain ⟨rfl, hsz, hP, hK, hD0, hN, hGs⟩ := hv
  have hts := atoms_spec (ws := ws_ y cc nL ret) B.pre
  have hts : ∀ w ∈ lw_all, w.before _ s = true := fun w h => hts w (List.mem_cons_of_mem _ h)
  have hl := lv_entry av (n := nL) hav
  rw [lg_entry_eq]
  exact body p e s m below meth c _ ⟨⟨⟨B.exec, B.bytes, hml, findClass_of_methodNamed B.named, hts⟩, B.returns, B.notSynchronized, hK⟩, hN, hG, hGs, hml⟩ (name_of_methodNamed B.named B.method).1 hsz ⟨kLe.rf, L, hL, hP, hD0.self, va_S.rf, fun q h => Or.inr (by rw [← hsz]; exact h)⟩ hl
theorem p_at (h : kHp Xw D cl A H0 H locs kd0 an0 kd an f) (hk : kd a = K) (hK : K ≠ 0) : ∃ (L : List Nat) (q : Nat), kDom L kd ∧ a ∈ L ∧ kH D cl A H0 H locs (Xw ++ va_pl L f) ∧ (Xw ++ va_pl L f)[q]? = some (a, f a) := by
  obtain ⟨-, L, hL, hH⟩ := h
  have ha := (hL a).mpr (by rw [hk]; exact hK)
  obtain ⟨q, hq⟩ := va_pl_get (X := Xw) (f := f) ha
  exact ⟨L, q, hL, ha, hH, hq⟩
theorem p_get (X : kXp G p s m args meth c cc nL own ret D cl tys A) (h : kHp Xw D cl A H0 H locs kd0 an0 kd an f) (hk : kd a = K) (hK : K ≠ 0) {C : String} {T : u_T} {N ci index : Nat} (hin : ∀ w ∈ u_ws C T N, w ∈ lw_all) {fs : List Value} (he : f a = .inr (ci, fs)) (hc : cl[ci]? = some (C, T, N)) (k : Nat) (hkN : k < N) (hl : Cond.fieldLink own index (T k).1 (T k).2.1 (T k).2.2.1 ∈ lw_all) {v : Value} (hv : fs[k]? = some v) (hdg : decode cc pc = .ok (.getfield index, 3))
    (kk : W p l e R s m args below meth c H locs cells slots Q (F0 m (pc + 3) ls (v :: rest))) : W p l e R s m args below meth c H locs cells slots Q (F0 m pc ls (.ref a :: rest)) := by
  obtain ⟨L, q, -, -, hH, hq⟩ := p_at h hk hK
  exact k_get X.1 hH hin q (by rw [← he]; exact hq) hc k hkN hl hv hdg kk
theorem p_getN (X : kXp G p s m args meth c cc nL own ret D cl tys A) (h : kHp Xw D cl A H0 H locs kd0 an0 kd an f) (hk : kd a = K) (hK : K ≠ 0) {C host : String} {T : u_T} {N ci index : Nat} (hin : ∀ w ∈ u_ws C T N, w ∈ lw_all) {fs : List Value} (he : f a = .inr (ci, fs)) (hc : cl[ci]? = some (C, T, N)) (k : Nat) (hkN : k < N) (hl : Cond.fieldLinkNest own index (T k).1 (T k).2.1 (T k).2.2.1 host ∈ lw_tbl) {v : Value} (hv : fs[k]? = some v) (hdg : decode cc pc = .ok (.getfield index, 3))
    (kk : W p l e R s m args below meth c H locs cells slots Q (F0 m (pc + 3) ls (v :: rest))) : W p l e R s m args below meth c H locs cells slots Q (F0 m pc ls (.ref a :: rest)) := by
  obtain ⟨L, q, -, -, hH, hq⟩ := p_at h hk hK
  exact va_getN X.1.1.1 X.1.1.2.1 X.1.1.2.2.2.2 hin X.1.1.2.2.2.1 X.1.2.2.2 hH.1 q (by rw [← he]; exact hq) hc k hkN (X.2.1.use hl rfl) (fun _ h9 => h9) hv hdg kk
theorem p_back {L : List Nat} {q : Nat} {e0 : va_E} (hle : kLe kd0 an0 kd an) (hL : kDom L kd) (ha : a ∈ L) (hH : kH D cl A H0 H locs (Xw ++ va_pl L f)) (hq : (Xw ++ va_pl L f)[q]? = some (a, f a)) (hf1 : va_up f a e0 = f1) {H1 : Heap} {locs1 : List Loc} (h1 : va_P D cl ((Xw ++ va_pl L f).set q (a, e0)) H1) (h2 : va_D A ((Xw ++ va_pl L f).set q (a, e0))) (h3 : va_S A H0 H1 locs1) : kHp Xw D cl A H0 H1 locs1 kd0 an0 kd an f1 := by
  have e := va_pl_set (X := Xw) (e := e0) hH.2.1 ha hq
  rw [e] at h1 h2
  subst hf1
  exact ⟨hle, L, hL, h1, h2, h3, hH.2.2.2⟩
theorem p_put (X : kXp G p s m args meth c cc nL own ret D cl tys A) (h : kHp Xw D cl A H0 H locs kd0 an0 kd an f) (hk : kd a = K) (hK : K ≠ 0) {C : String} {T : u_T} {N ci index : Nat} (hin : ∀ w ∈ u_ws C T N, w ∈ lw_all) {ty0 : Nat → FieldType} (hty : ∀ k, k < N → parseFieldDescriptor (T k).2.2.1 = some (ty0 k)) (hnm : ∀ a, a < N → ∀ b, b < N → a ≠ b → (T a).2.1 ≠ (T b).2.1) {fs : List Value} (he : f a = .inr (ci, fs)) (hc : cl[ci]? = some (C, T, N)) (k : Nat) (hkN : k < N) (hl : Cond.fieldLink own index (T k).1 (T k).2.1 (T k).2.2.1 ∈ lw_all) (hfin : (T k).2.2.2 = false) {ty : FieldType} {v : Value} (hd : ty0 k = ty) (hn : narrow ty v = v) (hfit : fits ty v = true) (hlen : k < fs.length)
    (hdg : decode cc pc = .ok (.putfield index, 3)) (hf1 : va_up f a (.inr (ci, fs.set k v)) = f1) (kk : ∀ (H1 : Heap) (locs1 : List Loc), kHp Xw D cl A H0 H1 locs1 kd0 an0 kd an f1 → W p l e R s m args below meth c H1 locs1 cells slots Q (F0 m (pc + 3) ls rest)) : W p l e R s m args below meth c H locs cells slots Q (F0 m pc ls (v :: .ref a :: rest)) := by
  obtain ⟨L, q, hL, ha, hH, hq⟩ := p_at h hk hK
  exact va_put X.1.1.1 X.1.1.2.1 X.1.1.2.2.2.2 hin ty0 hty hnm X.1.1.2.2.2.1 X.1.2.2.2 hH.1 hH.2.1 hH.2.2.1 q (by rw [← he]; exact hq) hc k hkN (X.1.1.2.2.2.2 _ hl) (fun _ h9 => h9) hfin ((hty k hkN).trans (by rw [hd])) hn hfit hlen hdg (fun H1 l1 h1 h2 h3 => kk H1 l1 (p_back h.1 hL ha hH hq hf1 h1 h2 h3))
theorem p_putF (X : kXp G p s m args meth c cc nL own ret D cl tys A) (h : kHp Xw D cl A H0 H locs kd0 an0 kd an f) (hk : kd a = K) (hK : K ≠ 0) {C : String} {T : u_T} {N ci index : Nat} (hin : ∀ w ∈ u_ws C T N, w ∈ lw_all) {ty0 : Nat → FieldType} (hty : ∀ k, k < N → parseFieldDescriptor (T k).2.2.1 = some (ty0 k)) (hnm : ∀ a, a < N → ∀ b, b < N → a ≠ b → (T a).2.1 ≠ (T b).2.1) {fs : List Value} (he : f a = .inr (ci, fs)) (hc : cl[ci]? = some (C, T, N)) (k : Nat) (hkN : k < N) (hl : Cond.fieldLink own index (T k).1 (T k).2.1 (T k).2.2.1 ∈ lw_all) (hfin : (T k).2.2.2 = true) (hmn : meth.name = "<init>") (hown : (T k).1 = own) {ty : FieldType} {v : Value} (hd : ty0 k = ty) (hn : narrow ty v = v) (hfit : fits ty v = true) (hlen : k < fs.length)
    (hdg : decode cc pc = .ok (.putfield index, 3)) (hf1 : va_up f a (.inr (ci, fs.set k v)) = f1) (kk : ∀ (H1 : Heap) (locs1 : List Loc), kHp Xw D cl A H0 H1 locs1 kd0 an0 kd an f1 → W p l e R s m args below meth c H1 locs1 cells slots Q (F0 m (pc + 3) ls rest)) : W p l e R s m args below meth c H locs cells slots Q (F0 m pc ls (v :: .ref a :: rest)) := by
  obtain ⟨L, q, hL, ha, hH, hq⟩ := p_at h hk hK
  exact va_putF X.1.1.1 X.1.1.2.1 X.1.1.2.2.2.2 hin ty0 hty hnm X.1.1.2.2.2.1 X.1.2.2.2 hH.1 hH.2.1 hH.2.2.1 q (by rw [← he]; exact hq) hc k hkN (X.1.1.2.2.2.2 _ hl) (fun _ h9 => h9) hfin hmn hown ((hty k hkN).trans (by rw [hd])) hn hfit hlen hdg (fun H1 l1 h1 h2 h3 => kk H1 l1 (p_back h.1 hL ha hH hq hf1 h1 h2 h3))
theorem p_putN (X : kXp G p s m args meth c cc nL own ret D cl tys A) (h : kHp Xw D cl A H0 H locs kd0 an0 kd an f) (hk : kd a = K) (hK : K ≠ 0) {C host : String} {T : u_T} {N ci index : Nat} (hin : ∀ w ∈ u_ws C T N, w ∈ lw_all) {ty0 : Nat → FieldType} (hty : ∀ k, k < N → parseFieldDescriptor (T k).2.2.1 = some (ty0 k)) (hnm : ∀ a, a < N → ∀ b, b < N → a ≠ b → (T a).2.1 ≠ (T b).2.1) {fs : List Value} (he : f a = .inr (ci, fs)) (hc : cl[ci]? = some (C, T, N)) (k : Nat) (hkN : k < N) (hl : Cond.fieldLinkNest own index (T k).1 (T k).2.1 (T k).2.2.1 host ∈ lw_tbl) (hfin : (T k).2.2.2 = false) {ty : FieldType} {v : Value} (hd : ty0 k = ty) (hn : narrow ty v = v) (hfit : fits ty v = true) (hlen : k < fs.length)
    (hdg : decode cc pc = .ok (.putfield index, 3)) (hf1 : va_up f a (.inr (ci, fs.set k v)) = f1) (kk : ∀ (H1 : Heap) (locs1 : List Loc), kHp Xw D cl A H0 H1 locs1 kd0 an0 kd an f1 → W p l e R s m args below meth c H1 locs1 cells slots Q (F0 m (pc + 3) ls rest)) : W p l e R s m args below meth c H locs cells slots Q (F0 m pc ls (v :: .ref a :: rest)) := by
  obtain ⟨L, q, hL, ha, hH, hq⟩ := p_at h hk hK
  exact va_putN X.1.1.1 X.1.1.2.1 X.1.1.2.2.2.2 hin ty0 hty hnm X.1.1.2.2.2.1 X.1.2.2.2 hH.1 hH.2.1 hH.2.2.1 q (by rw [← he]; exact hq) hc k hkN (X.2.1.use hl rfl) (fun _ h9 => h9) hfin ((hty k hkN).trans (by rw [hd])) hn hfit hlen hdg (fun H1 l1 h1 h2 h3 => kk H1 l1 (p_back h.1 hL ha hH hq hf1 h1 h2 h3))
theorem p_iald (X : kXp G p s m args meth c cc nL own ret D cl tys A) (h : kHp Xw D cl A H0 H locs kd0 an0 kd an f) (hk : kd a = K) (hK : K ≠ 0) {cA : ClassId} {n : Nat} {g : Nat → Int32} (he : f a = .inl (cA, n, .inl g)) (t0 : Nat) (ht : tys[t0]? = some (cA, .int)) {i : Int32} (hin : vp_in i n) (hdg : decode cc pc = .ok (.iaload, 1))
    (kk : W p l e R s m args below meth c H locs cells slots Q (F0 m (pc + 1) ls (.int (g i.toNatClampNeg) :: rest))) : W p l e R s m args below meth c H locs cells slots Q (F0 m pc ls (.int i :: .ref a :: rest)) := by
  obtain ⟨L, q, -, -, hH, hq⟩ := p_at h hk hK
  exact va_iald X.1.1.1 X.1.1.2.1 X.1.2.2.2 hH.1 q t0 (by rw [← he]; exact hq) ht hin hdg kk
theorem p_zald (X : kXp G p s m args meth c cc nL own ret D cl tys A) (h : kHp Xw D cl A H0 H locs kd0 an0 kd an f) (hk : kd a = K) (hK : K ≠ 0) {cA : ClassId} {n : Nat} {g : Nat → Int32} (he : f a = .inl (cA, n, .inl g)) (t0 : Nat) (ht : tys[t0]? = some (cA, .boolean)) {i : Int32} (hin : vp_in i n) (hdg : decode cc pc = .ok (.baload, 1))
    (kk : W p l e R s m args below meth c H locs cells slots Q (F0 m (pc + 1) ls (.int (g i.toNatClampNeg) :: rest))) : W p l e R s m args below meth c H locs cells slots Q (F0 m pc ls (.int i :: .ref a :: rest)) := by
  obtain ⟨L, q, -, -, hH, hq⟩ := p_at h hk hK
  exact va_zald X.1.1.1 X.1.1.2.1 X.1.2.2.2 hH.1 q t0 (by rw [← he]; exact hq) ht hin hdg kk
theorem p_bald (X : kXp G p s m args meth c cc nL own ret D cl tys A) (h : kHp Xw D cl A H0 H locs kd0 an0 kd an f) (hk : kd a = K) (hK : K ≠ 0) {cA : ClassId} {n : Nat} {g : Nat → Int32} (he : f a = .inl (cA, n, .inl g)) (t0 : Nat) (ht : tys[t0]? = some (cA, .byte)) {i : Int32} (hin : vp_in i n) (hdg : decode cc pc = .ok (.baload, 1))
    (kk : W p l e R s m args below meth c H locs cells slots Q (F0 m (pc + 1) ls (.int (g i.toNatClampNeg) :: rest))) : W p l e R s m args below meth c H locs cells slots Q (F0 m pc ls (.int i :: .ref a :: rest)) := by
  obtain ⟨L, q, -, -, hH, hq⟩ := p_at h hk hK
  exact va_bald X.1.1.1 X.1.1.2.1 X.1.2.2.2 hH.1 q t0 (by rw [← he]; exact hq) ht hin hdg kk
theorem p_cald (X : kXp G p s m args meth c cc nL own ret D cl tys A) (h : kHp Xw D cl A H0 H locs kd0 an0 kd an f) (hk : kd a = K) (hK : K ≠ 0) {cA : ClassId} {n : Nat} {g : Nat → Int32} (he : f a = .inl (cA, n, .inl g)) (t0 : Nat) (ht : tys[t0]? = some (cA, .char)) {i : Int32} (hin : vp_in i n) (hdg : decode cc pc = .ok (.caload, 1))
    (kk : W p l e R s m args below meth c H locs cells slots Q (F0 m (pc + 1) ls (.int (g i.toNatClampNeg) :: rest))) : W p l e R s m args below meth c H locs cells slots Q (F0 m pc ls (.int i :: .ref a :: rest)) := by
  obtain ⟨L, q, -, -, hH, hq⟩ := p_at h hk hK
  exact va_cald X.1.1.1 X.1.1.2.1 X.1.2.2.2 hH.1 q t0 (by rw [← he]; exact hq) ht hin hdg kk
theorem p_lald (X : kXp G p s m args meth c cc nL own ret D cl tys A) (h : kHp Xw D cl A H0 H locs kd0 an0 kd an f) (hk : kd a = K) (hK : K ≠ 0) {cA : ClassId} {n : Nat} {g : Nat → Int64} (he : f a = .inl (cA, n, .inr (.inl g))) (t0 : Nat) (ht : tys[t0]? = some (cA, .long)) {i : Int32} (hin : vp_in i n) (hdg : decode cc pc = .ok (.laload, 1))
    (kk : W p l e R s m args below meth c H locs cells slots Q (F0 m (pc + 1) ls (.long (g i.toNatClampNeg) :: rest))) : W p l e R s m args below meth c H locs cells slots Q (F0 m pc ls (.int i :: .ref a :: rest)) := by
  obtain ⟨L, q, -, -, hH, hq⟩ := p_at h hk hK
  exact va_lald X.1.1.1 X.1.1.2.1 X.1.2.2.2 hH.1 q t0 (by rw [← he]; exact hq) ht hin hdg kk
theorem p_rald (X : kXp G p s m args meth c cc nL own ret D cl tys A) (h : kHp Xw D cl A H0 H locs kd0 an0 kd an f) (hk : kd a = K) (hK : K ≠ 0) {cA : ClassId} {n : Nat} {g : Nat → Option Nat} (he : f a = .inl (cA, n, .inr (.inr (.inr (.inr g))))) (t0 : Nat) {C : String} (ht : tys[t0]? = some (cA, .object C)) {i : Int32} (hin : vp_in i n) (hdg : decode cc pc = .ok (.aaload, 1))
    (kk : W p l e R s m args below meth c H locs cells slots Q (F0 m (pc + 1) ls (va_rf (g i.toNatClampNeg) :: rest))) : W p l e R s m args below meth c H locs cells slots Q (F0 m pc ls (.int i :: .ref a :: rest)) := by
  obtain ⟨L, q, -, -, hH, hq⟩ := p_at h hk hK
  exact va_aldq X.1.1.1 X.1.1.2.1 X.1.2.2.2 hH.1 q t0 (by rw [← he]; exact hq) ht hin hdg kk
theorem p_iast (X : kXp G p s m args meth c cc nL own ret D cl tys A) (h : kHp Xw D cl A H0 H locs kd0 an0 kd an f) (hk : kd a = K) (hK : K ≠ 0) {cA : ClassId} {n : Nat} {g : Nat → Int32} (he : f a = .inl (cA, n, .inl g)) (t0 : Nat) (ht : tys[t0]? = some (cA, .int)) {i : Int32} {x : Int32} (hin : vp_in i n) (hdg : decode cc pc = .ok (.iastore, 1)) (hf1 : va_up f a (.inl (cA, n, .inl (upd g i.toNatClampNeg x))) = f1)
    (kk : ∀ (H1 : Heap) (locs1 : List Loc), kHp Xw D cl A H0 H1 locs1 kd0 an0 kd an f1 → W p l e R s m args below meth c H1 locs1 cells slots Q (F0 m (pc + 1) ls rest)) : W p l e R s m args below meth c H locs cells slots Q (F0 m pc ls (.int x :: .int i :: .ref a :: rest)) := by
  obtain ⟨L, q, hL, ha, hH, hq⟩ := p_at h hk hK
  exact va_iast X.1.1.1 X.1.1.2.1 X.1.2.2.2 hH.1 hH.2.1 hH.2.2.1 q t0 (by rw [← he]; exact hq) ht hin hdg (fun H1 l1 h1 h2 h3 => kk H1 l1 (p_back h.1 hL ha hH hq hf1 h1 h2 h3))
theorem p_zast (X : kXp G p s m args meth c cc nL own ret D cl tys A) (h : kHp Xw D cl A H0 H locs kd0 an0 kd an f) (hk : kd a = K) (hK : K ≠ 0) {cA : ClassId} {n : Nat} {g : Nat → Int32} (he : f a = .inl (cA, n, .inl g)) (t0 : Nat) (ht : tys[t0]? = some (cA, .boolean)) {i : Int32} {x : Int32} (hin : vp_in i n) (hdg : decode cc pc = .ok (.bastore, 1)) (hf1 : va_up f a (.inl (cA, n, .inl (upd g i.toNatClampNeg (vp_nar .boolean x)))) = f1)
    (kk : ∀ (H1 : Heap) (locs1 : List Loc), kHp Xw D cl A H0 H1 locs1 kd0 an0 kd an f1 → W p l e R s m args below meth c H1 locs1 cells slots Q (F0 m (pc + 1) ls rest)) : W p l e R s m args below meth c H locs cells slots Q (F0 m pc ls (.int x :: .int i :: .ref a :: rest)) := by
  obtain ⟨L, q, hL, ha, hH, hq⟩ := p_at h hk hK
  exact va_zast X.1.1.1 X.1.1.2.1 X.1.2.2.2 hH.1 hH.2.1 hH.2.2.1 q t0 (by rw [← he]; exact hq) ht hin hdg (fun H1 l1 h1 h2 h3 => kk H1 l1 (p_back h.1 hL ha hH hq hf1 h1 h2 h3))
theorem p_bast (X : kXp G p s m args meth c cc nL own ret D cl tys A) (h : kHp Xw D cl A H0 H locs kd0 an0 kd an f) (hk : kd a = K) (hK : K ≠ 0) {cA : ClassId} {n : Nat} {g : Nat → Int32} (he : f a = .inl (cA, n, .inl g)) (t0 : Nat) (ht : tys[t0]? = some (cA, .byte)) {i : Int32} {x : Int32} (hin : vp_in i n) (hdg : decode cc pc = .ok (.bastore, 1)) (hf1 : va_up f a (.inl (cA, n, .inl (upd g i.toNatClampNeg (vp_nar .byte x)))) = f1)
    (kk : ∀ (H1 : Heap) (locs1 : List Loc), kHp Xw D cl A H0 H1 locs1 kd0 an0 kd an f1 → W p l e R s m args below meth c H1 locs1 cells slots Q (F0 m (pc + 1) ls rest)) : W p l e R s m args below meth c H locs cells slots Q (F0 m pc ls (.int x :: .int i :: .ref a :: rest)) := by
  obtain ⟨L, q, hL, ha, hH, hq⟩ := p_at h hk hK
  exact va_bast X.1.1.1 X.1.1.2.1 X.1.2.2.2 hH.1 hH.2.1 hH.2.2.1 q t0 (by rw [← he]; exact hq) ht hin hdg (fun H1 l1 h1 h2 h3 => kk H1 l1 (p_back h.1 hL ha hH hq hf1 h1 h2 h3))
theorem p_cast (X : kXp G p s m args meth c cc nL own ret D cl tys A) (h : kHp Xw D cl A H0 H locs kd0 an0 kd an f) (hk : kd a = K) (hK : K ≠ 0) {cA : ClassId} {n : Nat} {g : Nat → Int32} (he : f a = .inl (cA, n, .inl g)) (t0 : Nat) (ht : tys[t0]? = some (cA, .char)) {i : Int32} {x : Int32} (hin : vp_in i n) (hdg : decode cc pc = .ok (.castore, 1)) (hf1 : va_up f a (.inl (cA, n, .inl (upd g i.toNatClampNeg (vp_nar .char x)))) = f1)
    (kk : ∀ (H1 : Heap) (locs1 : List Loc), kHp Xw D cl A H0 H1 locs1 kd0 an0 kd an f1 → W p l e R s m args below meth c H1 locs1 cells slots Q (F0 m (pc + 1) ls rest)) : W p l e R s m args below meth c H locs cells slots Q (F0 m pc ls (.int x :: .int i :: .ref a :: rest)) := by
  obtain ⟨L, q, hL, ha, hH, hq⟩ := p_at h hk hK
  exact va_cast X.1.1.1 X.1.1.2.1 X.1.2.2.2 hH.1 hH.2.1 hH.2.2.1 q t0 (by rw [← he]; exact hq) ht hin hdg (fun H1 l1 h1 h2 h3 => kk H1 l1 (p_back h.1 hL ha hH hq hf1 h1 h2 h3))
theorem p_last (X : kXp G p s m args meth c cc nL own ret D cl tys A) (h : kHp Xw D cl A H0 H locs kd0 an0 kd an f) (hk : kd a = K) (hK : K ≠ 0) {cA : ClassId} {n : Nat} {g : Nat → Int64} (he : f a = .inl (cA, n, .inr (.inl g))) (t0 : Nat) (ht : tys[t0]? = some (cA, .long)) {i : Int32} {x : Int64} (hin : vp_in i n) (hdg : decode cc pc = .ok (.lastore, 1)) (hf1 : va_up f a (.inl (cA, n, .inr (.inl (vp_updL g i.toNatClampNeg x)))) = f1)
    (kk : ∀ (H1 : Heap) (locs1 : List Loc), kHp Xw D cl A H0 H1 locs1 kd0 an0 kd an f1 → W p l e R s m args below meth c H1 locs1 cells slots Q (F0 m (pc + 1) ls rest)) : W p l e R s m args below meth c H locs cells slots Q (F0 m pc ls (.long x :: .int i :: .ref a :: rest)) := by
  obtain ⟨L, q, hL, ha, hH, hq⟩ := p_at h hk hK
  exact va_last X.1.1.1 X.1.1.2.1 X.1.2.2.2 hH.1 hH.2.1 hH.2.2.1 q t0 (by rw [← he]; exact hq) ht hin hdg (fun H1 l1 h1 h2 h3 => kk H1 l1 (p_back h.1 hL ha hH hq hf1 h1 h2 h3))
theorem p_rNast (X : kXp G p s m args meth c cc nL own ret D cl tys A) (h : kHp Xw D cl A H0 H locs kd0 an0 kd an f) (hk : kd a = K) (hK : K ≠ 0) {cA : ClassId} {n : Nat} {g : Nat → Option Nat} (he : f a = .inl (cA, n, .inr (.inr (.inr (.inr g))))) (t0 : Nat) {C : String} (ht : tys[t0]? = some (cA, .object C)) {i : Int32} (hin : vp_in i n) (hdg : decode cc pc = .ok (.aastore, 1)) (hf1 : va_up f a (.inl (cA, n, .inr (.inr (.inr (.inr (va_up g i.toNatClampNeg none)))))) = f1)
    (kk : ∀ (H1 : Heap) (locs1 : List Loc), kHp Xw D cl A H0 H1 locs1 kd0 an0 kd an f1 → W p l e R s m args below meth c H1 locs1 cells slots Q (F0 m (pc + 1) ls rest)) : W p l e R s m args below meth c H locs cells slots Q (F0 m pc ls (.null :: .int i :: .ref a :: rest)) := by
  obtain ⟨L, q, hL, ha, hH, hq⟩ := p_at h hk hK
  exact va_astqN X.1.1.1 X.1.1.2.1 X.1.2.2.2 hH.1 hH.2.1 hH.2.2.1 q t0 (by rw [← he]; exact hq) ht hin hdg (fun H1 l1 h1 h2 h3 => kk H1 l1 (p_back h.1 hL ha hH hq hf1 h1 h2 h3))
theorem p_any (X : kXp G p s m args meth c cc nL own ret D cl tys A) (h : kHp Xw D cl A H0 H locs kd0 an0 kd an f) (hk : kd a = K) (hK : K ≠ 0) {ci : Nat} {fs : List Value} {r : vw_C} {E : String} (he : f a = .inr (ci, fs)) (hc : cl[ci]? = some r) (hcast : r.1 = E ∨ Cond.castable r.1 E ∈ lw_tbl) : va_Any E s H a := by
  obtain ⟨L, q, -, -, hH, hq⟩ := p_at h hk hK
  refine va_rAny X.1.2.2.2 hH.1 (by rw [← he]; exact hq) hc (fun comp c0 h1 h2 => ?_)
  rcases hcast with e | hw
  · subst e
    cases h1.symm.trans h2
    exact va_asg _ _
  · obtain ⟨c1, t1, f1, f2, f3⟩ := Cond.castable_spec (X.2.1.use (args := args) hw rfl)
    cases h1.symm.trans f2
    cases h2.symm.trans f1
    exact f3
theorem p_rast (X : kXp G p s m args meth c cc nL own ret D cl tys A) (h : kHp Xw D cl A H0 H locs kd0 an0 kd an f) (hk : kd a = K) (hK : K ≠ 0) {cA : ClassId} {n : Nat} {g : Nat → Option Nat} (he : f a = .inl (cA, n, .inr (.inr (.inr (.inr g))))) (t0 : Nat) {E : String} (ht : tys[t0]? = some (cA, .object E)) {v : Nat} (hv : va_Any E s H v) {i : Int32} (hin : vp_in i n) (hdg : decode cc pc = .ok (.aastore, 1)) (hf1 : va_up f a (.inl (cA, n, .inr (.inr (.inr (.inr (va_up g i.toNatClampNeg (some v))))))) = f1)
    (kk : ∀ (H1 : Heap) (locs1 : List Loc), kHp Xw D cl A H0 H1 locs1 kd0 an0 kd an f1 → W p l e R s m args below meth c H1 locs1 cells slots Q (F0 m (pc + 1) ls rest)) : W p l e R s m args below meth c H locs cells slots Q (F0 m pc ls (.ref v :: .int i :: .ref a :: rest)) := by
  obtain ⟨L, q, hL, ha, hH, hq⟩ := p_at h hk hK
  exact va_astqM X.1.1.1 X.1.1.2.1 X.1.2.2.2 hH.1 hH.2.1 hH.2.2.1 q t0 (by rw [← he]; exact hq) ht hv hin hdg (fun H1 l1 h1 h2 h3 => kk H1 l1 (p_back h.1 hL ha hH hq hf1 h1 h2 h3))
theorem p_alen (X : kXp G p s m args meth c cc nL own ret D cl tys A) (h : kHp Xw D cl A H0 H locs kd0 an0 kd an f) (hk : kd a = K) (hK : K ≠ 0) {cA : ClassId} {x : vp_A} (he : f a = .inl (cA, x)) (t0 : Nat) {ty : FieldType} (ht : tys[t0]? = some (cA, ty)) (hdg : decode cc pc = .ok (.arraylength, 1))
    (kk : W p l e R s m args below meth c H locs cells slots Q (F0 m (pc + 1) ls (.int (nI x.1) :: rest))) : W p l e R s m args below meth c H locs cells slots Q (F0 m pc ls (.ref a :: rest)) := by
  obtain ⟨L, q, -, -, hH, hq⟩ := p_at h hk hK
  exact va_alen X.1.1.1 X.1.1.2.1 X.1.2.2.2 hH.1 q t0 (by rw [← he]; exact hq) ht rfl hdg kk
end KP
