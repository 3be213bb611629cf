/-! BASE 22: a reference's room (cells of fixed shape) as a block of the world -/
section
variable {l : Launch} {G : kGt} {D : va_G} {cl : List vw_C} {tys : List (ClassId × FieldType)} {y : MethodName} {ws : List Cond} {rm : Room} {av : List Value} {mc ms sz : Nat} {w : va_W} {S : Type} {wf : S → va_W}
theorem q_pc (a : Array Value) (U : State) (h : kPq G D cl tys av sz w a U) : kPc D cl tys av sz w a U := ⟨h.1, h.2.1, h.2.2.1, h.2.2.2.1, h.2.2.2.2.1⟩
theorem q_ofCI {post : Int32 → S → Prop} {J : Int → va_W → Prop}
    (h : Met l y ws rm (kPc D cl tys av sz w) (va_Qi post (kB D cl tys (va_A w sz) wf) (va_A w sz)) mc ms (va_A w sz)) (hj : ∀ r u, post r u → J r.toInt (wf u)) :
    Met l y ws rm (kPq G D cl tys av sz w) (va_Qi (fun r w' => J r.toInt w') (kBq D cl (va_A w sz)) (va_A w sz)) mc ms (va_A w sz) :=
  q_met h q_pc (fun a st o t ⟨⟨r, u, e, hp, hP, hK, hD⟩, hF⟩ => ⟨⟨r, wf u, e, hj r u hp, hP, hD⟩, hF⟩)
theorem q_ofCL {post : Int64 → S → Prop} {J : Int → va_W → Prop}
    (h : Met l y ws rm (kPc D cl tys av sz w) (va_Ql post (kB D cl tys (va_A w sz) wf) (va_A w sz)) mc ms (va_A w sz)) (hj : ∀ r u, post r u → J r.toInt (wf u)) :
    Met l y ws rm (kPq G D cl tys av sz w) (va_Ql (fun r w' => J r.toInt w') (kBq D cl (va_A w sz)) (va_A w sz)) mc ms (va_A w sz) :=
  q_met h q_pc (fun a st o t ⟨⟨r, u, e, hp, hP, hK, hD⟩, hF⟩ => ⟨⟨r, wf u, e, hj r u hp, hP, hD⟩, hF⟩)
theorem q_ofCV {post : S → Prop} {J : va_W → Prop}
    (h : Met l y ws rm (kPc D cl tys av sz w) (va_Qv post (kB D cl tys (va_A w sz) wf) (va_A w sz)) mc ms (va_A w sz)) (hj : ∀ u, post u → J (wf u)) :
    Met l y ws rm (kPq G D cl tys av sz w) (va_Qv (fun w' => J w') (kBq D cl (va_A w sz)) (va_A w sz)) mc ms (va_A w sz) :=
  q_met h q_pc (fun a st o t ⟨⟨u, e, hp, hP, hK, hD⟩, hF⟩ => ⟨⟨wf u, e, hj u hp, hP, hD⟩, hF⟩)
end
