/-! BASE 15: an exception is caught by name -/
set_option maxRecDepth 100000
/-- the search through the rows of a table, for a thrown thing of class t: it ends at hp -/
def kRows (pl : Platform) (s0 : State) (d : ClassId) (pc : Nat) (t : ClassId) (hp : Nat) : List ExceptionTableEntry → Prop
  | [] => False
  | y :: ys => (covers y pc = false ∧ kRows pl s0 d pc t hp ys) ∨ (covers y pc = true ∧ y.catchType ≠ 0 ∧ ∃ c : ClassId, s0.vm.ClassLinks pl d y.catchType c ∧ ((s0.vm.assignable t c = true ∧ y.handlerPc = hp) ∨ (s0.vm.assignable t c = false ∧ kRows pl s0 d pc t hp ys)))
theorem kRows_go {e : Env} {s0 : State} {f : JFrame} {a : Addr} {cell : Cell} {hp : Nat} (hobj : ∀ k, cell.vm ≠ .statics k) (hk0 : ∃ k, s0.vm.classes[cell.cls]? = some k) : ∀ (rows : List ExceptionTableEntry) (S : State), s0.WarmedH S.vm → S.heap[a]? = some cell → kRows e.platform s0 f.method.cls f.pc cell.cls hp rows →
    ∃ vm', s0.WarmedH vm' ∧ ∀ (Q : Handler → Pre) (E : CtlPost) (d : Bool) (acts : List Action), wp (findHandler.go f a rows) Q E e d acts S ↔ Q (.found hp) d acts (S.setVm vm') := by
  obtain ⟨k0, hk0⟩ := hk0
  intro rows
  induction rows with
  | nil => intro S _ _ h; exact False.elim h
  | cons y ys ih =>
    intro S hW hcell h
    rcases h with ⟨hno, h⟩ | ⟨hx, h0, c, hl, h⟩
    · obtain ⟨vm', w1, w2⟩ := ih S hW hcell h
      exact ⟨vm', w1, fun Q E d acts => (W.findHandler_go_skip hno).trans (w2 Q E d acts)⟩
    · obtain ⟨dk, _, _, kt, hd, _, _, _, _, hkt, _, hopen⟩ := hl.here
      have hWn := hW.noted hd hopen (State.rightAt_cls hl)
      have hl' := hW.classLinks (pl := e.platform) hl
      obtain ⟨ha, ht⟩ := (resolveClass_links e.toSetting hl').op (op := VmOp.resolveClass f.method.cls y.catchType) rfl
      obtain ⟨k1, hk1, -⟩ := hWn.alike.2.2 _ _ hk0
      obtain ⟨k2, hk2, -⟩ := hWn.alike.2.2 _ _ hkt
      have hcv : covers y f.pc = true := hx
      simp only [covers] at hx
      rcases h with ⟨hf, rfl⟩ | ⟨hf, h⟩
      · have hf' : (S.vm.noted f.method.cls y.catchType (.cls c)).assignable cell.cls c = true := by rw [hWn.alike.assignable]; exact hf
        exact ⟨_, hWn, fun Q E d acts => by simp [findHandler.go, hx, h0, ha, ht, hcell, hobj, hk1, hk2, hf', VmOp.dirties, VmOp.acts]⟩
      · have hf' : (S.vm.noted f.method.cls y.catchType (.cls c)).assignable cell.cls c = false := by rw [hWn.alike.assignable]; exact hf
        obtain ⟨vm', w1, w2⟩ := ih (S.setVm (S.vm.noted f.method.cls y.catchType (.cls c))) hWn hcell h
        exact ⟨vm', w1, fun Q E d acts => by
          refine Iff.trans ?_ (w2 Q E d acts)
          simp [findHandler.go, hx, h0, ha, ht, hcell, hobj, hk1, hk2, hf', VmOp.dirties, VmOp.acts]⟩
/-- one step: the frame goes on at the handler -/
theorem x_caught {tb : Tables} {e : Env} {s target : State} {g : JFrame} {c : Code} {below : List Frame} {a : Addr} (h : At s g.method c below) {pc : Nat} {vm' : Vm}
    (hf : ∀ (Q : Handler → Pre) (E : CtlPost) (d : Bool) (acts : List Action), wp (findHandler g a) Q E e d acts ((s.setTop g).pushFrame (.throwing a)) ↔ Q (.found pc) d acts (((s.setTop g).pushFrame (.throwing a)).setVm vm'))
    (hrest : Steps tb e below ((s.setVm vm').setTop { g with pc := pc, stack := [.ref a] }) target) : Steps tb e below ((s.setTop g).pushFrame (.throwing a)) target := by
  obtain ⟨hgo, hw⟩ := h.throwing a
  refine Steps.head hgo hw ?_
  obtain ⟨g0, hg⟩ := Option.isSome_iff_exists.mp h.top
  obtain ⟨r, hr⟩ := State.topJava?_eq_some.mp hg
  have hr' : (s.setVm vm').frames = .java g0 :: r := hr
  have key : (stepThrowing e ((s.setTop g).pushFrame (.throwing a)) a (.java g :: s.frames.tail)).1 = (((s.setTop g).pushFrame (.throwing a)).setVm vm').setFrames (.java { g with pc := pc, stack := [.ref a] } :: s.frames.tail) := by
    simp only [stepThrowing, searchFrame, vmDo]
    generalize hz : Sem.go _ e false [] ((s.setTop g).pushFrame (.throwing a)) = res
    obtain ⟨as, rfl, -⟩ := Sem.eq_ok_of hz (a := Handler.found pc) (s' := ((s.setTop g).pushFrame (.throwing a)).setVm vm') (acts' := []) (by simp [hf _ _ _ _])
    rfl
  rw [stepThread_throwing (frames_entered h.top _), key]
  rw [State.setTop_of_frames _ hr'] at hrest
  rw [hr, List.tail_cons, State.pushFrame, State.setTop_of_frames _ hr]
  have e1 : ∀ (F K : List Frame), ((s.setFrames F).setVm vm').setFrames K = (s.setVm vm').setFrames K := fun F K => by
    rw [show (s.setFrames F).setVm vm' = (s.setVm vm').setFrames F from rfl, State.setFrames_setFrames]
  rw [State.setFrames_setFrames, e1]
  exact hrest
section KX15
variable {Xw : va_W} {G : kGt} {p : Program} {l : Launch} {e : Env} {R : Room} {s : State} {m : MethodId} {args : Array Value} {below : List Frame} {meth : Method} {c : Code} {H : Heap} {locs : List Loc} {cells slots : Nat} {Q : State → Prop}
variable {cc : ByteArray} {pc nL : Nat} {ls : Array Slot} {rest st : List Value} {own : String} {ret : Option FieldType} {D : va_G} {cl : List vw_C} {tys : List (ClassId × FieldType)} {A : Nat → Prop}
theorem p_catch {k q hp : Nat} (hE : kIsE k q s.vm H) (hrows : ∀ (e : Env), l.admits e → ∀ t, s.vm.findClass (kEx k) = some t → kRows e.platform s m.cls pc t hp c.exceptionTable.toList) (kk : W p l e R s m args below meth c H locs cells slots Q (F0 m hp ls [.ref q])) :
    kWx p l e R s m args below meth c H locs cells slots Q (F0 m pc ls rest) q := by
  intro T hT X
  obtain ⟨ce, c1, c2, c3⟩ := hE
  have hk0 : ∃ k, s.vm.classes[ce.cls]? = some k := by
    obtain ⟨kx, hx⟩ := Vm.findClass_spec c3
    exact ⟨kx, hx.1⟩
  obtain ⟨vm', w1, w2⟩ := kRows_go (e := e) (s0 := s) (f := F0 m pc ls rest) (a := q) (cell := ce) (hp := hp) (fun z h => by rw [c2] at h; cases h) hk0 c.exceptionTable.toList ((T.setTop (F0 m pc ls rest)).pushFrame (.throwing q)) X.warmed (by show T.heap[q]? = _; rw [hT]; exact c1) (hrows e X.admits _ c3)
  obtain ⟨t, a1, b1⟩ := kk (T.setVm vm') hT (X.noted w1)
  exact ⟨t, x_caught (g := F0 m pc ls rest) X.here (fun Q E d acts => (W.findHandler_eq X.method' X.code).trans (w2 Q E d acts)) a1, b1⟩
end KX15
