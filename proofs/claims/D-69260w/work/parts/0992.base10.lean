/-! BASE 10: methods that may throw, in a pool world: contract's end, calls, throws -/
set_option maxRecDepth 100000
def kEx : Nat → String
  | 1 => "java/lang/IllegalArgumentException"
  | _ => "java/lang/IllegalStateException"
def kIsE (k x : Nat) (vm : Vm) (H : Heap) : Prop := ∃ ce : Cell, H[x]? = some ce ∧ ce.vm = .none ∧ vm.findClass (kEx k) = some ce.cls
/-- it returns what 'post' says of, or throws by 'px' -/
def kXg {α S : Type} (mk : α → Option Value) (post : α → S → Prop) (px : Nat → S → Prop) (B : S → State → Prop) (A : Nat → Prop) : Array Value → State → Outcome → State → Prop := fun _ st oc t =>
  ((∃ (r : α) (u : S), oc = .returned (mk r) ∧ post r u ∧ B u t) ∨ (∃ (k x : Nat) (u : S), oc = .threw x ∧ kIsE k x t.vm t.heap ∧ px k u ∧ B u t)) ∧ va_F A st t
/-- thrown at frame g -/
def kWx (p : Program) (l : Launch) (e : Env) (R : Room) (s : State) (m : MethodId) (args : Array Value) (below : List Frame) (meth : Method) (c : Code) (H : Heap) (locs : List Loc) (cells slots : Nat) (Q : State → Prop) (g : JFrame) (x : Addr) : Prop :=
  ∀ T : State, T.heap = H → Stand p l e R s m args below meth c T locs cells slots → ∃ t, Steps p.tables e below ((T.setTop g).pushFrame (.throwing x)) t ∧ Q t
section KX10
variable {Xw : va_W} {G : kGt} {p : Program} {l : Launch} {e : Env} {R : Room} {s : State} {m : MethodId} {args : Array Value} {below : List Frame} {meth : Method} {c : Code} {H : Heap} {locs : List Loc} {cells slots : Nat} {Q : State → Prop}
variable {cc : ByteArray} {pc nL : Nat} {ls : Array Slot} {rest st : List Value} {own : String} {ret : Option FieldType} {D : va_G} {cl : List vw_C} {tys : List (ClassId × FieldType)} {A : Nat → Prop} {kd0 an0 kd an : Nat → Nat} {f : Nat → va_E} {L : List Nat} {a b K : Nat}
variable {x y : MethodName} {bytes : ByteArray} {maxL n index : Nat} {rety : Option FieldType} {rm : Room} {Qc : Array Value → State → Outcome → State → Prop} {C host owner : String} {As : List Value} {mc ms : Nat}
theorem x_up {Qc Qc' : Array Value → State → Outcome → State → Prop} {g : JFrame} {free : Addr → Prop} (hq : ∀ o t, Qc args s o t → Qc' args s o t) (h : W p l e R s m args below meth c H locs cells slots (MQ below Qc args s mc ms free) g) : W p l e R s m args below meth c H locs cells slots (kMQ below Qc' args s mc ms free) g := fun T hT X => by
  obtain ⟨t, a1, b1⟩ := h T hT X
  exact ⟨t, a1, kMQ.of hq b1⟩
theorem x_enter {sz : Nat} {av : List Value} (hG : kGok G) (hy : plainName y.cls = true) (hav : (lg_sl av).length ≤ nL) (hL : kDom L kd) {free : Addr → Prop}
    (body : ∀ (p : Program) (e : Env) (s : State) (m : MethodId) (below : List Frame) (meth : Method) (c : Code) (ls : Array Slot), kXp G p s m av.toArray meth c cc nL y.cls ret D cl tys (va_A (Xw ++ va_pl L f) sz) → meth.name = y.name → c.exceptionTable.isEmpty = true → (∀ q, va_A (Xw ++ va_pl L f) sz q → ∀ cell : Cell, s.heap[q]? = some cell → cell.vm.isStatics = false) → s.heap.size = sz → kHp Xw D cl (va_A (Xw ++ va_pl L f) sz) s.heap s.heap [] kd an kd an f → lv_has ls nL (lv_args 0 av) →
      W p l e rm s m av.toArray below meth c s.heap [] 0 0 (kMQ below Qc av.toArray s mc ms free) (F0 m 0 ls [])) : kMx l y (ws_ y cc nL ret) rm (kPp Xw G D cl tys av sz L f) Qc mc ms free := by
  refine MetFree.of_bodyS (code := cc) (maxLocals := nL) (ret := ret) hy ?_ ?_
  · intro args s m h hn
    obtain ⟨meth, c, h1, h2, h3, h4, h5, h6, -, -⟩ := Cond.code_spec hn (atoms_spec (ws := ws_ y cc nL ret) h _ List.mem_cons_self)
    exact ⟨meth, c, h1, h2, h3, h4, h5, h6⟩
  · intro p e s m args below meth c s₁ B hml hv _
    have hh0 : s₁.heap = s.heap := by rw [B.state]; rfl
    obtain ⟨rfl, hsz, hP, hK, hD0, hN, hGs⟩ := hv
    have hts0 := atoms_spec (ws := ws_ y cc nL ret) B.pre
    have hts : ∀ w ∈ lw_all, w.before _ s = true := fun w h => hts0 w (List.mem_cons_of_mem _ h)
    have hl := lv_entry av (n := nL) hav
    have hst : ∀ q, va_A (Xw ++ va_pl L f) sz q → ∀ cell : Cell, s.heap[q]? = some cell → cell.vm.isStatics = false := by
      intro q hq cell hcell
      rcases hq with ⟨k, e0, he⟩ | h
      · cases e0 with
        | inl a0 =>
          have e1 : s.heap[q]? = some (vp_cell a0.1 a0.2) := hP k _ he
          cases hcell.symm.trans e1
          obtain ⟨c1, n1, g1 | g1 | g1 | g1 | g1⟩ := a0 <;> rfl
        | inr o0 =>
          obtain ⟨r, hr, -⟩ := hP k _ he
          obtain ⟨cell', g1, g2, -⟩ := va_recv hK hP hr (q0 := k) (fs := o0.2) he
          cases hcell.symm.trans g1
          exact g2
      · rw [← hsz] at h
        have := (Array.getElem?_eq_some_iff.mp hcell).1
        omega
    have := body p e s m below meth c _ ⟨⟨⟨B.exec, B.bytes, hml, findClass_of_methodNamed B.named, hts⟩, B.returns, B.notSynchronized, hK⟩, hN, hG, hGs, hml⟩ (name_of_methodNamed B.named B.method).1 (B.noHandlers (hts0 _ List.mem_cons_self)) hst hsz ⟨kLe.rf, L, hL, hP, hD0.self, va_S.rf, fun q h => Or.inr (by rw [← hsz]; exact h)⟩ hl
    rw [← lg_entry_eq] at this
    obtain ⟨t, a1, o, b1, b2, b3⟩ := this s₁ hh0 (Stand.of_body B)
    exact ⟨t, o, a1, b1, b2, b3⟩
variable {ar : Array Value} {S : Type} {fk : S → (Nat → Nat) × (Nat → Nat) × (Nat → va_E)} {α : Type} {mkv : α → Option Value} {post : α → S → Prop} {px : Nat → S → Prop}
/-- a call that may throw -/
theorem p_x0 (h : kHp Xw D cl A s.heap H locs kd0 an0 kd an f) (hr : ∀ L : List Nat, kDom L kd → kH D cl A s.heap H locs (Xw ++ va_pl L f) → kRn p l e R s m args below meth c H locs cells slots mc ms (F0 m pc ls st) rest (kXg mkv post px (kBp Xw D cl (va_A (Xw ++ va_pl L f) H.size) kd an fk) (va_A (Xw ++ va_pl L f) H.size) ar) (va_A (Xw ++ va_pl L f) H.size))
    (kk : ∀ (r : α) (u : S) (H1 : Heap) (locs1 : List Loc), post r u → kLe kd an (fk u).1 (fk u).2.1 → kHp Xw D cl A s.heap H1 locs1 kd0 an0 (fk u).1 (fk u).2.1 (fk u).2.2 → W p l e R s m args below meth c H1 locs1 (cells + mc) (slots + ms) Q (F0 m (pc + 3) ls ((mkv r).toList ++ rest)))
    (kt : ∀ (k q : Nat) (u : S) (H1 : Heap) (locs1 : List Loc), px k u → kLe kd an (fk u).1 (fk u).2.1 → kHp Xw D cl A s.heap H1 locs1 kd0 an0 (fk u).1 (fk u).2.1 (fk u).2.2 → kIsE k q s.vm H1 → kWx p l e R s m args below meth c H1 locs1 (cells + mc) (slots + ms) Q (F0 m pc ls rest) q) : W p l e R s m args below meth c H locs cells slots Q (F0 m pc ls st) := by
  obtain ⟨L, hL, hH⟩ := h.2
  have hA : ∀ q, va_A (Xw ++ va_pl L f) H.size q → A q := p_free hH
  intro T hT X
  obtain ⟨o, st₀, t, T', L1, h0, X', hL1, e1, e2, ⟨hq, hz, hk⟩, hst⟩ := hr L hL hH T hT X
  rw [h0] at hz hk
  have hS : va_S A s.heap t.heap (locs ++ L1) := ⟨Nat.le_trans hH.2.2.1.1 hz, fun q h1 h2 => by rw [hk q (Nat.lt_of_lt_of_le h1 hH.2.2.1.1) (fun z => h2 (hA q z))]; exact hH.2.2.1.2.1 q h1 h2, fun q hq => by
    rcases List.mem_append.mp hq with h | h
    · exact hH.2.2.1.2.2 q h
    · exact hA _ (hL1 q h)⟩
  rcases hq with ⟨r, u, rfl, hp, hB⟩ | ⟨k, q, u, rfl, hE, hp, hB⟩
  · obtain ⟨g1, g2⟩ := p_after h hH hB hS
    obtain ⟨t2, a1, b1⟩ := kk r u t.heap (locs ++ L1) hp g1 g2 T' e1 X'
    exact ⟨t2, hst t2 a1, b1⟩
  · obtain ⟨g1, g2⟩ := p_after h hH hB hS
    have hal : s.vm.Alike t.vm := by rw [← e2]; exact X'.warmed.alike
    obtain ⟨ce, c1, c2, c3⟩ := hE
    obtain ⟨t2, a1, b1⟩ := kt k q u t.heap (locs ++ L1) hp g1 g2 ⟨ce, c1, c2, by rw [hal.findClass] at c3; exact c3⟩ T' e1 X'
    exact ⟨t2, hst t2 a1, b1⟩
/-- nothing here catches it: the method throws -/
theorem p_xout (X : kXp G p s m args meth c cc nL own ret D cl tys A) (h : kHp Xw D cl A s.heap H locs kd0 an0 kd an f) (hc1 : cells ≤ mc) (hc2 : slots ≤ ms) {k q : Nat} (hE : kIsE k q s.vm H) (u : S) (hp : px k u) (hfk : fk u = (kd, an, f)) (hout : ∀ x ∈ c.exceptionTable.toList, covers x pc = false) :
    kWx p l e R s m args below meth c H locs cells slots (kMQ below (kXg mkv post px (kBp Xw D cl A kd0 an0 fk) A) args s mc ms A) (F0 m pc ls rest) q := by
  intro T hT XS
  have XS := stand_widen XS hc1 hc2
  obtain ⟨h1, h2, h3, h4, h5⟩ := XS.leaveThrown q (g := F0 m pc ls rest) rfl rfl rfl hout X.1.2.2.1
  refine ⟨_, h1, .threw q, h2, h3, ⟨Or.inr ⟨k, q, u, rfl, ?_, hp, p_B h hfk (t := T.setFrames (.throwing q :: below)) hT⟩, (p_S h).F (t := T.setFrames (.throwing q :: below)) hT⟩, locs, ⟨h4, h5⟩, (p_S h).2.2⟩
  obtain ⟨ce, c1, c2, c3⟩ := hE
  exact ⟨ce, by show T.heap[q]? = _; rw [hT]; exact c1, c2, by rw [h4.alike.findClass]; exact c3⟩
theorem covers_no (h : c.exceptionTable.isEmpty = true) (pc : Nat) : ∀ x ∈ c.exceptionTable.toList, covers x pc = false := covers_of_empty h pc
end KX10
