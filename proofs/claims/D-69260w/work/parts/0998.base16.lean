/-! BASE 16: methods with handlers -/
set_option maxRecDepth 100000
theorem kEx_ne {k : Nat} (h : ¬ k = 1) : kEx k = kEx 2 := by
  unfold kEx
  split
  · exact absurd rfl h
  · rfl
theorem kIsE.two {k q : Nat} {vm : Vm} {H : Heap} (h : ¬ k = 1) (hE : kIsE k q vm H) : kIsE 2 q vm H := by
  unfold kIsE at hE ⊢
  rw [kEx_ne h] at hE
  exact hE
theorem kIsE.one {k q : Nat} {vm : Vm} {H : Heap} (h : k = 1) (hE : kIsE k q vm H) : kIsE 1 q vm H := h ▸ hE
theorem assignable_self (vm : Vm) (t : ClassId) : vm.assignable t t = true := by
  show vm.assignableAux (255 + 1) t t = true
  rw [Vm.assignableAux]
  simp
def kThW (G : kGt) (l : Launch) (c : Code) (A : Nat → Prop) (s : State) (hh : List (Nat × Nat × Nat × Nat)) : Prop := kTh0 G l ∧ c.exceptionTable.toList = tableOf hh ∧ ∀ q, A q → ∀ cell : Cell, s.heap[q]? = some cell → cell.vm.isStatics = false
theorem kThW.no {G : kGt} {l : Launch} {c : Code} {A : Nat → Prop} {s : State} {hh : List (Nat × Nat × Nat × Nat)} (h : kThW G l c A s hh) (pc : Nat) (hz : (hh.all fun q => !(decide (q.1 ≤ pc) && decide (pc < q.2.1))) = true) : ∀ x ∈ c.exceptionTable.toList, covers x pc = false := by
  rw [h.2.1]
  intro x hx
  obtain ⟨q, hq, rfl⟩ := List.mem_map.mp hx
  have := List.all_eq_true.mp hz q hq
  simp at this
  simp [covers]
  omega
section KX16
variable {Xw : va_W} {G : kGt} {p : Program} {l : Launch} {e : Env} {R : Room} {s : State} {m : MethodId} {args : Array Value} {below : List Frame} {meth : Method} {c : Code} {H : Heap} {locs : List Loc} {cells slots : Nat} {Q : State → Prop}
variable {cc : ByteArray} {pc nL : Nat} {ls : Array Slot} {rest st : List Value} {own : String} {ret : Option FieldType} {D : va_G} {cl : List vw_C} {tys : List (ClassId × FieldType)} {A : Nat → Prop} {kd0 an0 kd an : Nat → Nat} {f : Nat → va_E} {L : List Nat} {a b K : Nat}
variable {x y : MethodName} {bytes : ByteArray} {maxL n index : Nat} {rety : Option FieldType} {rm : Room} {Qc : Array Value → State → Outcome → State → Prop} {C host owner : String} {As : List Value} {mc ms : Nat} {hh : List (Nat × Nat × Nat × Nat)}
/-- rows -/
theorem kRows_skip {pl : Platform} {s0 : State} {d : ClassId} {t : ClassId} {hp : Nat} {q : Nat × Nat × Nat × Nat} {qs : List (Nat × Nat × Nat × Nat)} (hz : (decide (q.1 ≤ pc) && decide (pc < q.2.1)) = false) (h : kRows pl s0 d pc t hp (tableOf qs)) : kRows pl s0 d pc t hp (tableOf (q :: qs)) := Or.inl ⟨by simpa [covers] using hz, h⟩
theorem kRows_hit {k : Nat} {q : Nat × Nat × Nat × Nat} {qs : List (Nat × Nat × Nat × Nat)} (X : kXp G p s m args meth c cc nL own ret D cl tys A) (hz : (decide (q.1 ≤ pc) && decide (pc < q.2.1)) = true) (h0 : q.2.2.2 ≠ 0) (hl : Cond.classLink own q.2.2.2 (kEx k) ∈ lw_all) : ∀ (e : Env), l.admits e → ∀ t, s.vm.findClass (kEx k) = some t → kRows e.platform s m.cls pc t q.2.2.1 (tableOf (q :: qs)) := by
  intro e ha t ht
  have hpl : e.platform.magicAccessors = ({} : Platform).magicAccessors := by rw [Launch.admits.platform ha]
  obtain ⟨c', hc', hcl⟩ := Cond.classLink_spec X.1.1.2.2.2.1 (X.1.1.2.2.2.2 _ hl) e.platform hpl
  cases ht.symm.trans hc'
  exact Or.inr ⟨by simpa [covers] using hz, h0, _, hcl, Or.inl ⟨assignable_self _ _, rfl⟩⟩
theorem kRows_pass {k : Nat} {N : String} {hp : Nat} {q : Nat × Nat × Nat × Nat} {qs : List (Nat × Nat × Nat × Nat)} (X : kXp G p s m args meth c cc nL own ret D cl tys A) (hz : (decide (q.1 ≤ pc) && decide (pc < q.2.1)) = true) (h0 : q.2.2.2 ≠ 0) (hl : Cond.classLink own q.2.2.2 N ∈ lw_all) (hnc : va_Nc (kEx k) N s)
    (hr : ∀ (e : Env), l.admits e → ∀ t, s.vm.findClass (kEx k) = some t → kRows e.platform s m.cls pc t hp (tableOf qs)) : ∀ (e : Env), l.admits e → ∀ t, s.vm.findClass (kEx k) = some t → kRows e.platform s m.cls pc t hp (tableOf (q :: qs)) := by
  intro e ha t ht
  have hpl : e.platform.magicAccessors = ({} : Platform).magicAccessors := by rw [Launch.admits.platform ha]
  obtain ⟨c', hc', hcl⟩ := Cond.classLink_spec X.1.1.2.2.2.1 (X.1.1.2.2.2.2 _ hl) e.platform hpl
  obtain ⟨c1, t1, h1, h2, h3⟩ := hnc
  cases ht.symm.trans h1
  cases hc'.symm.trans h2
  exact Or.inr ⟨by simpa [covers] using hz, h0, _, hcl, Or.inr ⟨h3, hr e ha _ ht⟩⟩
theorem x_enterW {sz : Nat} {av : List Value} (hG : kGok G) (hy : plainName y.cls = true) (hav : (lg_sl av).length ≤ nL) (hL : kDom L kd) {free : Addr → Prop}
    (body : ∀ (p : Program) (e : Env) (s : State) (m : MethodId) (below : List Frame) (meth : Method) (c : Code) (ls : Array Slot), kXp G p s m av.toArray meth c cc nL y.cls ret D cl tys (va_A (Xw ++ va_pl L f) sz) → meth.name = y.name → c.exceptionTable.toList = tableOf hh → (∀ q, va_A (Xw ++ va_pl L f) sz q → ∀ cell : Cell, s.heap[q]? = some cell → cell.vm.isStatics = false) → s.heap.size = sz → kHp Xw D cl (va_A (Xw ++ va_pl L f) sz) s.heap s.heap [] kd an kd an f → lv_has ls nL (lv_args 0 av) →
      W p l e rm s m av.toArray below meth c s.heap [] 0 0 (kMQ below Qc av.toArray s mc ms free) (F0 m 0 ls [])) : kMx l y (wsW_ y cc nL ret hh) rm (kPp Xw G D cl tys av sz L f) Qc mc ms free := by
  refine MetFree.of_bodyS (code := cc) (maxLocals := nL) (ret := ret) hy ?_ ?_
  · intro args s m h hn
    obtain ⟨m9, meth, c, hn9, h1, h2, h3, h4, -, h5, h6, -⟩ := Cond.codeWith_spec (atoms_spec (ws := wsW_ y cc nL ret hh) h _ List.mem_cons_self)
    cases hn.symm.trans hn9
    exact ⟨meth, c, h1, h2, h3, h4, h5, h6⟩
  · intro p e s m args below meth c s₁ B hml hv _
    have hh0 : s₁.heap = s.heap := by rw [B.state]; rfl
    obtain ⟨rfl, hsz, hP, hK, hD0, hN, hGs⟩ := hv
    have hts0 := atoms_spec (ws := wsW_ y cc nL ret hh) B.pre
    have hts : ∀ w ∈ lw_all, w.before _ s = true := fun w h => hts0 w (List.mem_cons_of_mem _ h)
    have hxt : c.exceptionTable.toList = tableOf hh := by
      obtain ⟨m9, meth9, c9, hn9, h1, h2, h3, h4, h5, -⟩ := Cond.codeWith_spec (hts0 _ List.mem_cons_self)
      cases B.named.symm.trans hn9
      cases B.method.symm.trans h1
      cases (Stand.of_body B).code.symm.trans h2
      rw [← h5, table_eq]
    have hl := lv_entry av (n := nL) hav
    have hst : ∀ q, va_A (Xw ++ va_pl L f) sz q → ∀ cell : Cell, s.heap[q]? = some cell → cell.vm.isStatics = false := by
      intro q hq cell hcell
      rcases hq with ⟨k, e0, he⟩ | h
      · cases e0 with
        | inl a0 =>
          have e1 : s.heap[q]? = some (vp_cell a0.1 a0.2) := hP k _ he
          cases hcell.symm.trans e1
          obtain ⟨c1, n1, g1 | g1 | g1 | g1 | g1⟩ := a0 <;> rfl
        | inr o0 =>
          obtain ⟨r, hr, -⟩ := hP k _ he
          obtain ⟨cell', g1, g2, -⟩ := va_recv hK hP hr (q0 := k) (fs := o0.2) he
          cases hcell.symm.trans g1
          exact g2
      · rw [← hsz] at h
        have := (Array.getElem?_eq_some_iff.mp hcell).1
        omega
    have := body p e s m below meth c _ ⟨⟨⟨B.exec, B.bytes, hml, findClass_of_methodNamed B.named, hts⟩, B.returns, B.notSynchronized, hK⟩, hN, hG, hGs, hml⟩ (name_of_methodNamed B.named B.method).1 hxt hst hsz ⟨kLe.rf, L, hL, hP, hD0.self, va_S.rf, fun q h => Or.inr (by rw [← hsz]; exact h)⟩ hl
    rw [← lg_entry_eq] at this
    obtain ⟨t, a1, o, b1, b2, b3⟩ := this s₁ hh0 (Stand.of_body B)
    exact ⟨t, o, a1, b1, b2, b3⟩
theorem x_ivVW {T : State} {cellB : Cell} {g : JFrame} {argsL : List Value} (X : Stand p l e R s m args below meth c T locs cells slots) (hexec : p.tables.exec = Jvm.exec) (hown : s.vm.findClass own = some m.cls) (hlink : (Cond.methodLink own index y).before args s = true) (hinst : (Cond.instanceMethod y).before args s = true) (hsel : (Cond.selects C y y).before args s = true)
    (hcode : (Cond.codeWith y bytes maxL rety hh).before args s = true) (hy : y.cls ≠ "java/lang/invoke/MethodHandle" ∧ y.cls ≠ "java/lang/invoke/VarHandle") (hcell : T.heap[b]? = some cellB) (hobj : cellB.vm.isStatics = false) (hcls : s.vm.findClass C = some cellB.cls)
    (hg : g.method = m) (hlen : ∀ sig, parseMethodDescriptor y.desc = some sig → argsL.length = sig.parameters.length) (hstack : g.stack = argsL.reverse ++ .ref b :: rest) (hdg : decode c.code g.pc = .ok (.invokevirtual index, 3)) : kIv p l e R s m args below meth c T locs cells slots y g rest (Value.ref b :: argsL).toArray := by
  obtain ⟨mk, methM, hnamed, hmethM, hstM, habM⟩ := Cond.instanceMethod_spec hinst
  obtain ⟨m9, methM', cM, hn9, hmethM', -, -, -, -, -, -, hsigM⟩ := Cond.codeWith_spec hcode
  cases hnamed.symm.trans hn9
  cases hmethM.symm.trans hmethM'
  obtain ⟨c2, r2, m2, q1, q2, q3, q4, kP, hkP, hkPi⟩ := Cond.selects_spec hsel
  cases hcls.symm.trans q1
  cases (State.methodFound?_of_named hnamed hy).symm.trans q2
  cases hnamed.symm.trans q3
  have hselP : selectMethod e.platform s.vm cellB.cls mk = .method mk := by rw [Launch.admits_selectMethod X.admits]; exact q4
  obtain ⟨vm₁, X₁, hst⟩ := X.invokevirtual hexec hown hlink hnamed hmethM hstM hkP hkPi hy (a := b) (cell := cellB) hcell (fun z h => by rw [h] at hobj; cases hobj) hselP hmethM habM hkP hkPi (g := g) hg (argsL := argsL) (rest := rest) (hlen _ hsigM) hstack hdg
  exact ⟨mk, vm₁, X₁.warmed, X₁, X₁.named hnamed, hst⟩
theorem p_xVW (X : kXp G p s m args meth c cc nL own ret D cl tys A) (hH : kH D cl A s.heap H locs (Xw ++ va_pl L f)) (hL : kDom L kd) (hk : kd b = K) (hK : K ≠ 0) {ci : Nat} {fs : List Value} {T : u_T} {N : Nat} (he : f b = .inr (ci, fs)) (hc : cl[ci]? = some (C, T, N)) (hM : kMx l y (wsW_ y bytes maxL rety hh) rm (kPp Xw G D cl tys (.ref b :: As) H.size L f) Qc mc ms (va_A (Xw ++ va_pl L f) H.size))
    (hq : Cond.codeWith y bytes maxL rety hh ∈ lw_all) (hlk : Cond.methodLink own index y ∈ lw_all) (hin : Cond.instanceMethod y ∈ lw_all) (hse : Cond.selects C y y ∈ lw_all) (hini : Cond.initialized y.cls ∈ lw_all) (hrc : rm.cells = mc) (hrs : rm.slots = ms) (hd : y.cls ≠ "java/lang/invoke/MethodHandle" ∧ y.cls ≠ "java/lang/invoke/VarHandle" ∧ (parseMethodDescriptor y.desc).map (fun d => d.parameters.length) = some n) (hR : rm.frames + 1 ≤ R.frames ∧ 8 + (maxL + 11) + rm.locals ≤ R.locals)
    (hn : As.length = n) (hsize : ls.size = nL) (hst : st = As.reverse ++ .ref b :: rest) (hW : (rest.map fun v => v.category).sum ≤ 8) (hdg : decode cc pc = .ok (.invokevirtual index, 3)) (hf : cells + mc ≤ R.cells ∧ slots + ms ≤ R.slots) :
    kRn p l e R s m args below meth c H locs cells slots mc ms (F0 m pc ls st) rest (Qc (Value.ref b :: As).toArray) (va_A (Xw ++ va_pl L f) H.size) := by
  subst hst
  have ok := X.1.1.2.2.2.2
  have hlen : ∀ sig, parseMethodDescriptor y.desc = some sig → As.length = sig.parameters.length := fun sig h => by
    have h2 := hd.2.2
    rw [h] at h2
    exact hn.trans (Option.some.inj h2).symm
  obtain ⟨cellB, q1, q2, q3⟩ := p_recv X hH hL hk hK he hc
  exact x_rn (ig := .invokevirtual index) (fun T hT XS => x_ivVW XS X.1.1.1 X.1.1.2.2.2.1 (ok _ hlk) (ok _ hin) (ok _ hse) (ok _ hq) ⟨hd.1, hd.2.1⟩ (by rw [hT]; exact q1) q2 q3 rfl hlen rfl (by rw [X.1.1.2.1]; exact hdg))
    (x_backW (bytes := bytes) (maxL := maxL) (ret := rety) (hh := hh) hM (kPp_blind X.2.2.1) hrc hrs hR.1 hR.2 (pay_in ok (lw_methW hq)) List.mem_cons_self (fun a' U hW => word_at hW (Or.inl (by first | rfl | simp [Cond.onTables, Cond.keeps, Cond.steady])) (ok _ hini))) (fun U hU hW => p_pre X hH _ U hU hW) rfl (by rw [X.2.2.2.2]; exact hsize) (by rw [X.1.1.2.1]; exact hdg) (lv_room hW) hf
theorem p_xUW (X : kXp G p s m args meth c cc nL own ret D cl tys A) (hH : kH D cl A s.heap H locs (Xw ++ va_pl L f)) (hL : kDom L kd) (hk : kd b = K) (hK : K ≠ 0) {ci : Nat} {fs : List Value} {T : u_T} {N : Nat} (he : f b = .inr (ci, fs)) (hc : cl[ci]? = some (C, T, N)) (hM : kMx l y (wsW_ y bytes maxL rety hh) rm (kPp Xw G D cl tys (.ref b :: As) H.size L f) Qc mc ms (va_A (Xw ++ va_pl L f) H.size))
    (hq : Cond.codeWith y bytes maxL rety hh ∈ lw_all) (hlk : Cond.methodLink own index x ∈ lw_all) (hsm : Cond.sameMethod x.cls owner x.name x.desc ∈ lw_all) (hz : va_Nw (.declares ⟨owner, x.name, x.desc⟩) s) (hin : Cond.instanceMethod y ∈ lw_all) (hse : Cond.selects C x y ∈ lw_all) (hini : Cond.initialized y.cls ∈ lw_all) (hrc : rm.cells = mc) (hrs : rm.slots = ms) (hd : owner ≠ "java/lang/invoke/MethodHandle" ∧ owner ≠ "java/lang/invoke/VarHandle" ∧ (parseMethodDescriptor x.desc).map (fun d => d.parameters.length) = some n) (hR : rm.frames + 1 ≤ R.frames ∧ 8 + (maxL + 11) + rm.locals ≤ R.locals)
    (hn : As.length = n) (hsize : ls.size = nL) (hst : st = As.reverse ++ .ref b :: rest) (hW : (rest.map fun v => v.category).sum ≤ 8) (hdg : decode cc pc = .ok (.invokevirtual index, 3)) (hf : cells + mc ≤ R.cells ∧ slots + ms ≤ R.slots) :
    kRn p l e R s m args below meth c H locs cells slots mc ms (F0 m pc ls st) rest (Qc (Value.ref b :: As).toArray) (va_A (Xw ++ va_pl L f) H.size) := by
  subst hst
  have ok := X.1.1.2.2.2.2
  have hlen : ∀ sig, parseMethodDescriptor x.desc = some sig → As.length = sig.parameters.length := fun sig h => by
    have h2 := hd.2.2
    rw [h] at h2
    exact hn.trans (Option.some.inj h2).symm
  obtain ⟨cellB, q1, q2, q3⟩ := p_recv X hH hL hk hK he hc
  exact x_rn (ig := .invokevirtual index) (fun T hT XS => x_ivU XS X.1.1.1 X.1.1.2.2.2.1 (ok _ hlk) (ok _ hsm) (va_Decl.abs hz) ⟨hd.1, hd.2.1⟩ (ok _ hse) (ok _ hin) (by rw [hT]; exact q1) q2 q3 rfl hlen rfl (by rw [X.1.1.2.1]; exact hdg))
    (x_backW (bytes := bytes) (maxL := maxL) (ret := rety) (hh := hh) hM (kPp_blind X.2.2.1) hrc hrs hR.1 hR.2 (pay_in ok (lw_methW hq)) List.mem_cons_self (fun a' U hW => word_at hW (Or.inl (by first | rfl | simp [Cond.onTables, Cond.keeps, Cond.steady])) (ok _ hini))) (fun U hU hW => p_pre X hH _ U hU hW) rfl (by rw [X.2.2.2.2]; exact hsize) (by rw [X.1.1.2.1]; exact hdg) (lv_room hW) hf
end KX16
