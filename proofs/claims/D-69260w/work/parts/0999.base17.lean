/-! BASE 17: things outside the world that are read alone: Strings, their bytes, constants of an enumeration -/
set_option maxRecDepth 100000
/-- kind (1 String, 2 its bytes, 3 a constant of the enumeration), length, contents, a String's bytes -/
def kSo : Type := (Nat → Nat) × (Nat → Nat) × (Nat → Nat → Int32) × (Nat → Nat)
def kSo.k (so : kSo) : Nat → Nat := so.1
def kSo.n (so : kSo) : Nat → Nat := so.2.1
def kSo.c (so : kSo) : Nat → Nat → Int32 := so.2.2.1
def kSo.v (so : kSo) : Nat → Nat := so.2.2.2
def kSf (so : kSo) (A : Nat → Prop) (s : State) (H : Heap) : Prop :=
  (∀ b : Nat, so.k b = 1 → va_O "java/lang/String" b A s H ∧ va_OF "java/lang/String" "coder" "B" (.int 0) b A s H ∧ va_OF "java/lang/String" "value" "[B" (.ref (so.v b)) b A s H ∧ so.k (so.v b) = 2) ∧
  (∀ b : Nat, so.k b = 2 → va_T .byte b (so.n b) (fun j => .int (so.c b j)) A s H ∧ so.n b < 2147483648) ∧
  (∀ b : Nat, so.k b = 3 → va_O "KnowHouse$VersionTrans$State" b A s H ∧ va_OF "java/lang/Enum" "ordinal" "I" (.int (so.c b 0)) b A s H)
/-- an exception that was made before, and lies outside -/
def kOe (k q : Nat) (A : Nat → Prop) (s : State) (H : Heap) : Prop := kIsE k q s.vm H ∧ ¬ A q
section KX17
variable {Xw : va_W} {G : kGt} {p : Program} {l : Launch} {e : Env} {R : Room} {s : State} {m : MethodId} {args : Array Value} {below : List Frame} {meth : Method} {c : Code} {H : Heap} {locs : List Loc} {cells slots : Nat} {Q : State → Prop}
variable {cc : ByteArray} {pc nL : Nat} {ls : Array Slot} {rest st : List Value} {own : String} {ret : Option FieldType} {D : va_G} {cl : List vw_C} {tys : List (ClassId × FieldType)} {A : Nat → Prop} {kd0 an0 kd an : Nat → Nat} {f : Nat → va_E} {L : List Nat} {a b K : Nat}
variable {x y : MethodName} {bytes : ByteArray} {maxL n index : Nat} {rety : Option FieldType} {rm : Room} {Qc : Array Value → State → Outcome → State → Prop} {C host owner : String} {As : List Value} {mc ms : Nat}
variable {S : Type} {fk : S → (Nat → Nat) × (Nat → Nat) × (Nat → va_E)} {α : Type} {mkv : α → Option Value} {post : α → S → Prop} {px : Nat → S → Prop}
theorem p_oget (X : kXp G p s m args meth c cc nL own ret D cl tys A) (h : kHp Xw D cl A s.heap H locs kd0 an0 kd an f) {o n d : String} {q : Nat} {v : Value} (hE : va_OF o n d v q A s s.heap) (hl : Cond.fieldLink own index o n d ∈ lw_all) (hdg : decode cc pc = .ok (.getfield index, 3))
    (kk : W p l e R s m args below meth c H locs cells slots Q (F0 m (pc + 3) ls (v :: rest))) : W p l e R s m args below meth c H locs cells slots Q (F0 m pc ls (.ref q :: rest)) :=
  vk_getf X.1.1.1 X.1.1.2.1 hE (p_S h) X.1.1.2.2.2.1 (X.1.1.2.2.2.2 _ hl) (fun _ h => h) hdg kk
theorem p_orecv (hO : va_O C b A s s.heap) (hS : va_S A s.heap H locs) : ∃ cell : Cell, H[b]? = some cell ∧ cell.vm.isStatics = false ∧ s.vm.findClass C = some cell.cls := by
  obtain ⟨cell, h1, h2, h3, -⟩ := hO.kept hS.2.1
  exact ⟨cell, h1, h2, h3⟩
theorem p_runVo (X : kXp G p s m args meth c cc nL own ret D cl tys A) (hH : kH D cl A s.heap H locs (Xw ++ va_pl L f)) (hO : va_O C b A s s.heap) (hM : Met l y (ws_ y bytes maxL rety) rm (kPp Xw G D cl tys (.ref b :: As) H.size L f) Qc mc ms (va_A (Xw ++ va_pl L f) H.size))
    (cw : CallW R s args own C index y bytes maxL rety (ws_ y bytes maxL rety) rm mc ms n) (hn : As.length = n) (hsize : ls.size = nL) (hst : st = As.reverse ++ .ref b :: rest) (hW : (rest.map fun v => v.category).sum ≤ 8) (hdg : decode cc pc = .ok (.invokevirtual index, 3)) (hf : cells + mc ≤ R.cells ∧ slots + ms ≤ R.slots) :
    va_Run p l e R s m args below meth c H locs cells slots mc ms (F0 m pc ls st) rest (Qc (Value.ref b :: As).toArray) (va_A (Xw ++ va_pl L f) H.size) := by
  subst hst
  exact va_runV X.1.1 hM cw ⟨kPp_blind X.2.2.1, p_orecv hO hH.2.2.1, fun U hU hW => p_pre X hH _ U hU hW⟩ rfl hn hsize rfl (lv_room hW) hdg hf
theorem p_runUo (X : kXp G p s m args meth c cc nL own ret D cl tys A) (hH : kH D cl A s.heap H locs (Xw ++ va_pl L f)) (hO : va_O C b A s s.heap) (hM : Met l y (ws_ y bytes maxL rety) rm (kPp Xw G D cl tys (.ref b :: As) H.size L f) Qc mc ms (va_A (Xw ++ va_pl L f) H.size))
    (cw : va_CU R s args own C owner index x y bytes maxL rety (ws_ y bytes maxL rety) rm mc ms n) (hn : As.length = n) (hsize : ls.size = nL) (hst : st = As.reverse ++ .ref b :: rest) (hW : (rest.map fun v => v.category).sum ≤ 8) (hdg : decode cc pc = .ok (.invokevirtual index, 3)) (hf : cells + mc ≤ R.cells ∧ slots + ms ≤ R.slots) :
    va_Run p l e R s m args below meth c H locs cells slots mc ms (F0 m pc ls st) rest (Qc (Value.ref b :: As).toArray) (va_A (Xw ++ va_pl L f) H.size) := by
  subst hst
  exact va_runU X.1.1 hM cw ⟨kPp_blind X.2.2.1, p_orecv hO hH.2.2.1, fun U hU hW => p_pre X hH _ U hU hW⟩ rfl hn hsize rfl (lv_room hW) hdg hf
theorem p_xath (hT : kTh G l c A s) (X : kXp G p s m args meth c cc nL own ret D cl tys A) (h : kHp Xw D cl A s.heap H locs kd0 an0 kd an f) {k q : Nat} (hO : kOe k q A s s.heap) (hd : decode cc pc = .ok (.athrow, 1)) (hc1 : cells ≤ mc) (hc2 : slots ≤ ms) (u : S) (hp : px k u) (hfk : fk u = (kd, an, f)) :
    W p l e R s m args below meth c H locs cells slots (kMQ below (kXg mkv post px (kBp Xw D cl A kd0 an0 fk) A) args s mc ms A) (F0 m pc ls (.ref q :: rest)) := by
  intro T hT' XS
  have X3 := stand_widen XS hc1 hc2
  obtain ⟨⟨ce, c1, c2, c3⟩, hq⟩ := hO
  have hq1 : H[q]? = some ce := by rw [(p_S h).2.1 q (Array.getElem?_eq_some_iff.mp c1).1 hq]; exact c1
  obtain ⟨w1, w2, w3, w4, w5⟩ := X3.athrowLeaves X.1.1.1 (g := F0 m pc ls (.ref q :: rest)) rfl rfl rfl (hT.no pc) (a := q) (rest := rest) rfl (by rw [X.1.1.2.1]; exact hd) X.1.2.2.1
  refine ⟨_, w1, .threw q, w2, w3, ⟨Or.inr ⟨k, q, u, rfl, ⟨ce, by show T.heap[q]? = _; rw [hT']; exact hq1, c2, by rw [w4.alike.findClass]; exact c3⟩, hp, p_B h hfk (by exact hT')⟩, (p_S h).F (by exact hT')⟩, locs, ⟨w4, w5⟩, (p_S h).2.2⟩
end KX17
