/-! BASE 26: a cast to the class of what lies outside -/
section KX26
variable {Xw : va_W} {G : kGt} {p : Program} {l : Launch} {e : Env} {R : Room} {s : State} {m : MethodId} {args : Array Value} {below : List Frame} {meth : Method} {c : Code} {H : Heap} {locs : List Loc} {cells slots : Nat} {Q : State → Prop}
variable {cc : ByteArray} {pc nL : Nat} {ls : Array Slot} {rest st : List Value} {own : String} {ret : Option FieldType} {D : va_G} {cl : List vw_C} {tys : List (ClassId × FieldType)} {A : Nat → Prop} {kd0 an0 kd an : Nat → Nat} {f : Nat → va_E} {a : Nat}
theorem p_castSo (X : kXp G p s m args meth c cc nL own ret D cl tys A) {C : String} {index : Nat} (hC : ∃ k, ClassAt s C k) (hO : va_O C a A s s.heap) (h : kHp Xw D cl A s.heap H locs kd0 an0 kd an f) (hl : Cond.classLink own index C ∈ lw_all) (hdg : decode cc pc = .ok (.checkcast index, 3))
    (kk : W p l e R s m args below meth c H locs cells slots Q (F0 m (pc + 3) ls (.ref a :: rest))) : W p l e R s m args below meth c H locs cells slots Q (F0 m pc ls (.ref a :: rest)) := by
  obtain ⟨k, hC⟩ := hC
  obtain ⟨L, hL, hH⟩ := h.2
  exact va_castS X.1.1.1 X.1.1.2.1 X.1.1.2.2.2.1 (X.1.1.2.2.2.2 _ hl) hC (p_orecv hO hH.2.2.1) hdg kk
end KX26
/-! contracts told in a weaker way -/
theorem q_wI {l : Launch} {G : kGt} {D : va_G} {cl : List vw_C} {tys : List (ClassId × FieldType)} {y : MethodName} {ws : List Cond} {rm : Room} {av : List Value} {mc ms : Nat} {I : va_W → Prop} {J J' : Int → va_W → Prop} (h : kRi l G D cl tys y ws rm av mc ms I J) (hj : ∀ r w', J r w' → J' r w') : kRi l G D cl tys y ws rm av mc ms I J' :=
  fun sz w hI => q_met (h sz w hI) (fun _ _ z => z) (fun a st o t ⟨⟨r, u, e, hp, hB⟩, hF⟩ => ⟨⟨r, u, e, hj _ _ hp, hB⟩, hF⟩)
theorem q_wL {l : Launch} {G : kGt} {D : va_G} {cl : List vw_C} {tys : List (ClassId × FieldType)} {y : MethodName} {ws : List Cond} {rm : Room} {av : List Value} {mc ms : Nat} {I : va_W → Prop} {J J' : Int → va_W → Prop} (h : kRl l G D cl tys y ws rm av mc ms I J) (hj : ∀ r w', J r w' → J' r w') : kRl l G D cl tys y ws rm av mc ms I J' :=
  fun sz w hI => q_met (h sz w hI) (fun _ _ z => z) (fun a st o t ⟨⟨r, u, e, hp, hB⟩, hF⟩ => ⟨⟨r, u, e, hj _ _ hp, hB⟩, hF⟩)
theorem q_wV {l : Launch} {G : kGt} {D : va_G} {cl : List vw_C} {tys : List (ClassId × FieldType)} {y : MethodName} {ws : List Cond} {rm : Room} {av : List Value} {mc ms : Nat} {I : va_W → Prop} {J J' : va_W → Prop} (h : kRv l G D cl tys y ws rm av mc ms I J) (hj : ∀ w', J w' → J' w') : kRv l G D cl tys y ws rm av mc ms I J' :=
  fun sz w hI => q_met (h sz w hI) (fun _ _ z => z) (fun a st o t ⟨⟨u, e, hp, hB⟩, hF⟩ => ⟨⟨u, e, hj _ hp, hB⟩, hF⟩)
section KX26b
variable {Xw : va_W} {G : kGt} {p : Program} {l : Launch} {e : Env} {R : Room} {s : State} {m : MethodId} {args : Array Value} {below : List Frame} {meth : Method} {c : Code} {H : Heap} {locs : List Loc} {cells slots : Nat} {Q : State → Prop}
variable {cc : ByteArray} {pc nL : Nat} {ls : Array Slot} {rest st : List Value} {own : String} {ret : Option FieldType} {D : va_G} {cl : List vw_C} {tys : List (ClassId × FieldType)} {A : Nat → Prop} {kd0 an0 kd an : Nat → Nat} {f : Nat → va_E} {a : Nat}
/-- what lies outside may stand in an array -/
theorem p_anyO (X : kXp G p s m args meth c cc nL own ret D cl tys A) (h : kHp Xw D cl A s.heap H locs kd0 an0 kd an f) {C E : String} (hO : va_O C a A s s.heap) (hcast : C = E ∨ Cond.castable C E ∈ lw_tbl) : va_Any E s H a := by
  obtain ⟨L, hL, hH⟩ := h.2
  obtain ⟨cell, h1, h2, h3⟩ := p_orecv hO hH.2.2.1
  obtain ⟨kC, hkC, -⟩ := Vm.findClass_spec h3
  refine ⟨cell, h1, h2, ⟨kC, hkC⟩, fun comp hc => ?_⟩
  rcases hcast with e | hw
  · subst e
    cases h3.symm.trans hc
    exact va_asg _ _
  · obtain ⟨c1, t1, f1, f2, f3⟩ := Cond.castable_spec (X.2.1.use (args := args) hw rfl)
    cases hc.symm.trans f2
    cases h3.symm.trans f1
    exact f3
end KX26b
