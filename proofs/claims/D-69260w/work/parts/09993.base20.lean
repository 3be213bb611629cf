/-! BASE 20: a reference that may be null, by cases -/
section KX20
variable {p : Program} {l : Launch} {e : Env} {R : Room} {s : State} {m : MethodId} {args : Array Value} {below : List Frame} {meth : Method} {c : Code} {H : Heap} {locs : List Loc} {cells slots : Nat}
theorem p_isnull {r : Option Nat} {P : State → Prop} {Fr : Value → JFrame} (kn : r = none → W p l e R s m args below meth c H locs cells slots P (Fr .null)) (ks : ∀ b : Nat, r = some b → W p l e R s m args below meth c H locs cells slots P (Fr (va_rf r))) : W p l e R s m args below meth c H locs cells slots P (Fr (va_rf r)) := by
  cases r with
  | none => exact kn rfl
  | some x => exact ks x rfl
end KX20
