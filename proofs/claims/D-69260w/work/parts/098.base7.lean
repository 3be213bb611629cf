/-! BASE 7: methods of a class with natives; bytes -/
set_option maxRecDepth 100000
theorem p_ofWF {l : Launch} {y : MethodName} {ws ws' : List Cond} {rm : Room} {Pc : Array Value → State → Prop} {Qc : Array Value → State → Outcome → State → Prop} {mc ms : Nat} {free : Addr → Prop} {cc : ByteArray} {maxL : Nat} {ret : Option FieldType}
    (hy : plainFor y = true) (hw : ws = Cond.code y cc maxL ret :: ws')
    (body : ∀ p e s m args below meth c s₁, BodyLoose p l y (headSpec ws rm) cc maxL ret e s m args below meth c s₁ → c.maxLocals = maxL → Pc args s →
      W p l e (headSpec ws rm).room s m args below meth c s.heap [] 0 0 (MQ below Qc args s mc ms free) (entryFrame m args maxL)) : Met l y ws rm Pc Qc mc ms free := by
  refine MetFree.of_bodySF (code := cc) (maxLocals := maxL) (ret := ret) hy ?_ ?_
  · intro args s m h hn
    obtain ⟨meth, c, h1, h2, h3, h4, h5, h6, -, -⟩ := Cond.code_spec hn (atoms_spec (ws := ws) h _ (by rw [hw]; exact List.mem_cons_self))
    exact ⟨meth, c, h1, h2, h3, h4, h5, h6⟩
  · intro p e s m args below meth c s₁ B hml hP _
    have hh0 : s₁.heap = s.heap := by rw [B.state]; rfl
    obtain ⟨t, a1, o, b1, b2, b3⟩ := body p e s m args below meth c s₁ B hml hP s₁ hh0 (Stand.of_body B)
    exact ⟨t, o, a1, b1, b2, ⟨b3.1, b3.2⟩⟩
section KP7
variable {Xw : va_W} {G : kGt} {p : Program} {l : Launch} {e : Env} {R : Room} {s : State} {m : MethodId} {args : Array Value} {below : List Frame} {meth : Method} {c : Code} {H : Heap} {locs : List Loc} {cells slots : Nat} {Q : State → Prop}
variable {cc : ByteArray} {pc nL : Nat} {ls : Array Slot} {rest : List Value} {own : String} {ret : Option FieldType} {D : va_G} {cl : List vw_C} {tys : List (ClassId × FieldType)} {A : Nat → Prop} {H0 : Heap} {kd0 an0 kd an : Nat → Nat} {f f1 : Nat → va_E} {a K : Nat}
theorem p_enterF {y : MethodName} {rm : Room} {av : List Value} {sz : Nat} {L : List Nat} {Qc : Array Value → State → Outcome → State → Prop} {mc ms : Nat} {free : Addr → Prop} (hG : kGok G) (hy : plainFor y = true) (hav : (lg_sl av).length ≤ nL) (hL : kDom L kd)
    (body : ∀ (p : Program) (e : Env) (s : State) (m : MethodId) (below : List Frame) (meth : Method) (c : Code) (ls : Array Slot), kXp G p s m av.toArray meth c cc nL y.cls ret D cl tys (va_A (Xw ++ va_pl L f) sz) → meth.name = y.name → s.heap.size = sz → kHp Xw D cl (va_A (Xw ++ va_pl L f) sz) s.heap s.heap [] kd an kd an f → lv_has ls nL (lv_args 0 av) →
      W p l e rm s m av.toArray below meth c s.heap [] 0 0 (MQ below Qc av.toArray s mc ms free) (F0 m 0 ls [])) : Met l y (ws_ y cc nL ret) rm (kPp Xw G D cl tys av sz L f) Qc mc ms free := by
  refine p_ofWF (cc := cc) (maxL := nL) (ret := ret) hy rfl ?_
  intro p e s m args below meth c s₁ B hml hv
  obtain ⟨rfl, hsz, hP, hK, hD0, hN, hGs⟩ := hv
  have hts := atoms_spec (ws := ws_ y cc nL ret) B.pre
  have hts : ∀ w ∈ lw_all, w.before _ s = true := fun w h => hts w (List.mem_cons_of_mem _ h)
  have hl := lv_entry av (n := nL) hav
  rw [lg_entry_eq]
  exact body p e s m below meth c _ ⟨⟨⟨B.exec, B.bytes, hml, findClass_of_methodNamed B.named, hts⟩, B.returns, B.notSynchronized, hK⟩, hN, hG, hGs, hml⟩ (name_of_methodNamed B.named B.method).1 hsz ⟨kLe.rf, L, hL, hP, hD0.self, va_S.rf, fun q h => Or.inr (by rw [← hsz]; exact h)⟩ hl
end KP7
theorem z_fitB {f : Nat → Nat → Int32} {b : Nat} {sp n : Int32} {x z : Int} (e1 : sp.toInt = x) (e3 : n.toInt = z) (h1 : 0 ≤ x) (h3 : 0 ≤ z) (h : ∀ i : Int, 0 ≤ i → i < z → -128 ≤ zFF f b (x + i) ∧ zFF f b (x + i) < 128) : ∀ i : Nat, i < n.toNatClampNeg → fits .byte (.int (f b (sp.toNatClampNeg + i))) = true := by
  intro i hi
  rw [z_tcn e3] at hi
  rw [z_tcn e1]
  have q := h i (by omega) (by omega)
  unfold zFF zF at q
  rw [if_pos (by omega), show (x + (i : Int)).toNat = x.toNat + i by omega] at q
  exact z_fB q
