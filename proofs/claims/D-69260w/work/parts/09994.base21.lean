/-! BASE 21: rooms as blocks of a world: what a call to a room's method does is told by a predicate of its block -/
theorem q_P {D : va_G} {cl : List vw_C} {ws ws' : va_W} {H : Heap} (h : va_P D cl ws H) (p : ∀ q, q ∈ ws' → q ∈ ws) : va_P D cl ws' H := fun k q hk => by
  obtain ⟨i, hi⟩ := List.mem_iff_getElem?.mp (p q (List.mem_of_getElem? hk))
  exact h i q hi
theorem q_Di {A : Nat → Prop} {ws : va_W} : va_D A ws ↔ (ws.map Prod.fst).Nodup ∧ ∀ q, q ∈ ws → A q.1 := by
  constructor
  · rintro ⟨h1, h2⟩
    refine ⟨?_, fun q hq => ?_⟩
    · rw [List.nodup_iff_pairwise_ne, List.pairwise_map, List.pairwise_iff_getElem]
      intro i j hi hj hij e
      have := h1 i j _ _ (List.getElem?_eq_getElem hi) (List.getElem?_eq_getElem hj) e
      omega
    · obtain ⟨i, hi⟩ := List.mem_iff_getElem?.mp hq
      exact h2 i q hi
  · rintro ⟨h1, h2⟩
    refine ⟨fun i j p q hi hj e => ?_, fun k q hk => h2 q (List.mem_of_getElem? hk)⟩
    rw [List.nodup_iff_pairwise_ne, List.pairwise_map, List.pairwise_iff_getElem] at h1
    obtain ⟨li, ei⟩ := List.getElem?_eq_some_iff.mp hi
    obtain ⟨lj, ej⟩ := List.getElem?_eq_some_iff.mp hj
    rcases Nat.lt_trichotomy i j with h | h | h
    · exact absurd (by rw [ei, ej]; exact e) (h1 i j li lj h)
    · exact h
    · exact absurd (by rw [ei, ej]; exact e.symm) (h1 j i lj li h)
theorem q_D {A : Nat → Prop} {ws ws' : va_W} (h : va_D A ws) (p : ws.Perm ws') : va_D A ws' := by
  rw [q_Di] at h ⊢
  exact ⟨(p.map Prod.fst).nodup_iff.mp h.1, fun q hq => h.2 q (p.mem_iff.mpr hq)⟩
theorem q_H {D : va_G} {cl : List vw_C} {A : Nat → Prop} {H0 H : Heap} {locs : List Loc} {ws ws' : va_W} (h : kH D cl A H0 H locs ws) (p : ws.Perm ws') : kH D cl A H0 H locs ws' :=
  ⟨q_P h.1 (fun q hq => p.mem_iff.mpr hq), q_D h.2.1 p, h.2.2.1, h.2.2.2⟩
/-- behind a call that had a part of the world -/
theorem q_join {A0 : Nat → Prop} {D : va_G} {cl : List vw_C} {wr wc w1 : va_W} {H H1 : Heap} (hP : va_P D cl (wr ++ wc) H) (hD : va_D A0 (wr ++ wc))
    (hk : ∀ q : Nat, q < H.size → ¬ va_A wc H.size q → H1[q]? = H[q]?) (hF : ∀ q, va_A wc H.size q → A0 q) (hP1 : va_P D cl w1 H1) (hD1 : va_D (va_A wc H.size) w1) : va_P D cl (wr ++ w1) H1 ∧ va_D A0 (wr ++ w1) := by
  have dd := (q_Di.mp hD).1
  rw [List.map_append, List.nodup_append] at dd
  have apart : ∀ q : Nat × va_E, q ∈ wr → q.1 < H.size ∧ ¬ va_A wc H.size q.1 := fun q hq => by
    obtain ⟨i, hi⟩ := List.mem_iff_getElem?.mp (List.mem_append_left wc hq)
    have hl := (hP i q hi).lt
    refine ⟨hl, fun h => ?_⟩
    rcases h with ⟨k2, e, h⟩ | h
    · exact dd.2.2 q.1 (List.mem_map.mpr ⟨q, hq, rfl⟩) q.1 (List.mem_map.mpr ⟨(q.1, e), List.mem_of_getElem? h, rfl⟩) rfl
    · omega
  refine ⟨va_P.app (fun k q hq => ?_) hP1, va_D.app ?_ (hD1.weaken (fun k q _ h => hF q.1 h)) (fun i j x y hx hy hxy => ?_)⟩
  · have hm := List.mem_of_getElem? hq
    obtain ⟨g1, g2⟩ := apart q hm
    obtain ⟨i, hi⟩ := List.mem_iff_getElem?.mp (List.mem_append_left wc hm)
    exact (hP i q hi).kept (hk q.1 g1 g2)
  · exact q_Di.mpr ⟨dd.1, fun q hq => (q_Di.mp hD).2 q (List.mem_append_left wc hq)⟩
  · exact (apart x (List.mem_of_getElem? hx)).2 (by rw [hxy]; exact hD1.2 j y hy)
/-- a contract's start: the arguments, the heap's size, a block -/
def kPq (G : kGt) (D : va_G) (cl : List vw_C) (tys : List (ClassId × FieldType)) (av : List Value) (sz : Nat) (w : va_W) : Array Value → State → Prop :=
  va_Pc av (fun U => U.heap.size = sz ∧ va_P D cl w U.heap ∧ va_K D cl tys U ∧ va_D (fun _ => True) w ∧ kN U ∧ G (va_A w sz) U U.heap)
/-- the block behind it -/
def kBq (D : va_G) (cl : List vw_C) (A : Nat → Prop) (w : va_W) (t : State) : Prop := va_P D cl w t.heap ∧ va_D A w
theorem kPq_blind {G : kGt} (hG : kGok G) {D : va_G} {cl : List vw_C} {tys : List (ClassId × FieldType)} {av : List Value} {sz : Nat} {w : va_W} : FrameBlind (kPq G D cl tys av sz w) := by
  intro a U g mk q
  obtain ⟨q0, q1, qP, qK, qD, qN, qG⟩ := q
  exact ⟨q0, q1, qP, va_K.moved (u := U) (U := U.calling g mk a) (Vm.Alike.refl U.vm) qK, qD, kN.same (u := U) (U := U.calling g mk a) rfl qN, hG _ _ U (U.calling g mk a) U.heap U.heap (State.WarmedH.refl U) qG (fun _ _ h => h) (fun _ _ _ => rfl)⟩
/-- a room's method, by its block: from I it returns, and J tells of the answer and the block behind it -/
def kRi (l : Launch) (G : kGt) (D : va_G) (cl : List vw_C) (tys : List (ClassId × FieldType)) (y : MethodName) (ws : List Cond) (rm : Room) (av : List Value) (mc ms : Nat) (I : va_W → Prop) (J : Int → va_W → Prop) : Prop :=
  ∀ sz w, I w → Met l y ws rm (kPq G D cl tys av sz w) (va_Qi (fun r w' => J r.toInt w') (kBq D cl (va_A w sz)) (va_A w sz)) mc ms (va_A w sz)
def kRl (l : Launch) (G : kGt) (D : va_G) (cl : List vw_C) (tys : List (ClassId × FieldType)) (y : MethodName) (ws : List Cond) (rm : Room) (av : List Value) (mc ms : Nat) (I : va_W → Prop) (J : Int → va_W → Prop) : Prop :=
  ∀ sz w, I w → Met l y ws rm (kPq G D cl tys av sz w) (va_Ql (fun r w' => J r.toInt w') (kBq D cl (va_A w sz)) (va_A w sz)) mc ms (va_A w sz)
def kRv (l : Launch) (G : kGt) (D : va_G) (cl : List vw_C) (tys : List (ClassId × FieldType)) (y : MethodName) (ws : List Cond) (rm : Room) (av : List Value) (mc ms : Nat) (I : va_W → Prop) (J : va_W → Prop) : Prop :=
  ∀ sz w, I w → Met l y ws rm (kPq G D cl tys av sz w) (va_Qv (fun w' => J w') (kBq D cl (va_A w sz)) (va_A w sz)) mc ms (va_A w sz)
/-- one that may throw: by Jx -/
def kRx (l : Launch) (G : kGt) (D : va_G) (cl : List vw_C) (tys : List (ClassId × FieldType)) (y : MethodName) (ws : List Cond) (rm : Room) (av : List Value) (mc ms : Nat) (I : va_W → Prop) (J : Int → va_W → Prop) (Jx : Nat → va_W → Prop) : Prop :=
  ∀ sz w, I w → kMx l y ws rm (kPq G D cl tys av sz w) (kXg (fun r : Int32 => some (.int r)) (fun r w' => J r.toInt w') Jx (kBq D cl (va_A w sz)) (va_A w sz)) mc ms (va_A w sz)
theorem q_met {l : Launch} {y : MethodName} {ws : List Cond} {rm : Room} {Pc Pc' : Array Value → State → Prop} {Qc Qc' : Array Value → State → Outcome → State → Prop} {mc ms : Nat} {free : Addr → Prop} (h : Met l y ws rm Pc Qc mc ms free) (hp : ∀ a U, Pc' a U → Pc a U) (hq : ∀ a st o t, Qc a st o t → Qc' a st o t) : Met l y ws rm Pc' Qc' mc ms free := by
  intro p e ha hf hc s m args below h1 h2 h3 h4
  obtain ⟨n, o, g1, g2, g3, g4, g5⟩ := h p e ha hf hc s m args below h1 h2 (hp _ _ h3) h4
  exact ⟨n, o, g1, g2, g3, hq _ _ _ _ g4, g5⟩
theorem q_kMx {l : Launch} {y : MethodName} {ws : List Cond} {rm : Room} {Pc Pc' : Array Value → State → Prop} {Qc Qc' : Array Value → State → Outcome → State → Prop} {mc ms : Nat} {free : Addr → Prop} (h : kMx l y ws rm Pc Qc mc ms free) (hp : ∀ a U, Pc' a U → Pc a U) (hq : ∀ a st o t, Qc a st o t → Qc' a st o t) : kMx l y ws rm Pc' Qc' mc ms free := by
  intro p e ha hf hc s m args below h1 h2 h3 h4
  obtain ⟨n, o, g1, g2, g3, g4, g5⟩ := h p e ha hf hc s m args below h1 h2 (hp _ _ h3) h4
  exact ⟨n, o, g1, g2, g3, hq _ _ _ _ g4, g5⟩
/-- out of a pool's walk (no other cells) -/
theorem q_ofI {l : Launch} {G : kGt} {D : va_G} {cl : List vw_C} {tys : List (ClassId × FieldType)} {y : MethodName} {ws : List Cond} {rm : Room} {av : List Value} {mc ms sz : Nat} {L : List Nat} {f : Nat → va_E} {kd an : Nat → Nat} {S : Type} {post : Int32 → S → Prop} {fk : S → (Nat → Nat) × (Nat → Nat) × (Nat → va_E)} {J : Int → va_W → Prop}
    (h : Met l y ws rm (kPp [] G D cl tys av sz L f) (va_Qi post (kBp [] D cl (va_A ([] ++ va_pl L f) sz) kd an fk) (va_A ([] ++ va_pl L f) sz)) mc ms (va_A ([] ++ va_pl L f) sz)) (hj : ∀ r u L', post r u → kLe kd an (fk u).1 (fk u).2.1 → kDom L' (fk u).1 → J r.toInt (va_pl L' (fk u).2.2)) :
    Met l y ws rm (kPq G D cl tys av sz (va_pl L f)) (va_Qi (fun r w' => J r.toInt w') (kBq D cl (va_A (va_pl L f) sz)) (va_A (va_pl L f) sz)) mc ms (va_A (va_pl L f) sz) :=
  q_met h (fun _ _ z => z) (fun a st o t ⟨⟨r, u, e, hp, hle, L', hL', hP, hD⟩, hF⟩ => ⟨⟨r, va_pl L' (fk u).2.2, e, hj r u L' hp hle hL', hP, hD⟩, hF⟩)
theorem q_ofL {l : Launch} {G : kGt} {D : va_G} {cl : List vw_C} {tys : List (ClassId × FieldType)} {y : MethodName} {ws : List Cond} {rm : Room} {av : List Value} {mc ms sz : Nat} {L : List Nat} {f : Nat → va_E} {kd an : Nat → Nat} {S : Type} {post : Int64 → S → Prop} {fk : S → (Nat → Nat) × (Nat → Nat) × (Nat → va_E)} {J : Int → va_W → Prop}
    (h : Met l y ws rm (kPp [] G D cl tys av sz L f) (va_Ql post (kBp [] D cl (va_A ([] ++ va_pl L f) sz) kd an fk) (va_A ([] ++ va_pl L f) sz)) mc ms (va_A ([] ++ va_pl L f) sz)) (hj : ∀ r u L', post r u → kLe kd an (fk u).1 (fk u).2.1 → kDom L' (fk u).1 → J r.toInt (va_pl L' (fk u).2.2)) :
    Met l y ws rm (kPq G D cl tys av sz (va_pl L f)) (va_Ql (fun r w' => J r.toInt w') (kBq D cl (va_A (va_pl L f) sz)) (va_A (va_pl L f) sz)) mc ms (va_A (va_pl L f) sz) :=
  q_met h (fun _ _ z => z) (fun a st o t ⟨⟨r, u, e, hp, hle, L', hL', hP, hD⟩, hF⟩ => ⟨⟨r, va_pl L' (fk u).2.2, e, hj r u L' hp hle hL', hP, hD⟩, hF⟩)
theorem q_ofV {l : Launch} {G : kGt} {D : va_G} {cl : List vw_C} {tys : List (ClassId × FieldType)} {y : MethodName} {ws : List Cond} {rm : Room} {av : List Value} {mc ms sz : Nat} {L : List Nat} {f : Nat → va_E} {kd an : Nat → Nat} {S : Type} {post : S → Prop} {fk : S → (Nat → Nat) × (Nat → Nat) × (Nat → va_E)} {J : va_W → Prop}
    (h : Met l y ws rm (kPp [] G D cl tys av sz L f) (va_Qv post (kBp [] D cl (va_A ([] ++ va_pl L f) sz) kd an fk) (va_A ([] ++ va_pl L f) sz)) mc ms (va_A ([] ++ va_pl L f) sz)) (hj : ∀ u L', post u → kLe kd an (fk u).1 (fk u).2.1 → kDom L' (fk u).1 → J (va_pl L' (fk u).2.2)) :
    Met l y ws rm (kPq G D cl tys av sz (va_pl L f)) (va_Qv (fun w' => J w') (kBq D cl (va_A (va_pl L f) sz)) (va_A (va_pl L f) sz)) mc ms (va_A (va_pl L f) sz) :=
  q_met h (fun _ _ z => z) (fun a st o t ⟨⟨u, e, hp, hle, L', hL', hP, hD⟩, hF⟩ => ⟨⟨va_pl L' (fk u).2.2, e, hj u L' hp hle hL', hP, hD⟩, hF⟩)
theorem q_ofX {l : Launch} {G : kGt} {D : va_G} {cl : List vw_C} {tys : List (ClassId × FieldType)} {y : MethodName} {ws : List Cond} {rm : Room} {av : List Value} {mc ms sz : Nat} {L : List Nat} {f : Nat → va_E} {kd an : Nat → Nat} {S : Type} {post : Int32 → S → Prop} {px : Nat → S → Prop} {fk : S → (Nat → Nat) × (Nat → Nat) × (Nat → va_E)} {J : Int → va_W → Prop} {Jx : Nat → va_W → Prop}
    (h : kMx l y ws rm (kPp [] G D cl tys av sz L f) (kXg (fun r : Int32 => some (.int r)) post px (kBp [] D cl (va_A ([] ++ va_pl L f) sz) kd an fk) (va_A ([] ++ va_pl L f) sz)) mc ms (va_A ([] ++ va_pl L f) sz)) (hj : ∀ r u L', post r u → kLe kd an (fk u).1 (fk u).2.1 → kDom L' (fk u).1 → J r.toInt (va_pl L' (fk u).2.2)) (hx : ∀ k u L', px k u → kLe kd an (fk u).1 (fk u).2.1 → kDom L' (fk u).1 → Jx k (va_pl L' (fk u).2.2)) :
    kMx l y ws rm (kPq G D cl tys av sz (va_pl L f)) (kXg (fun r : Int32 => some (.int r)) (fun r w' => J r.toInt w') Jx (kBq D cl (va_A (va_pl L f) sz)) (va_A (va_pl L f) sz)) mc ms (va_A (va_pl L f) sz) :=
  q_kMx h (fun _ _ z => z) (fun a st o t ⟨hh, hF⟩ => ⟨by
    rcases hh with ⟨r, u, e, hp, hle, L', hL', hP, hD⟩ | ⟨k, x, u, e, hE, hp, hle, L', hL', hP, hD⟩
    · exact Or.inl ⟨r, va_pl L' (fk u).2.2, e, hj r u L' hp hle hL', hP, hD⟩
    · exact Or.inr ⟨k, x, va_pl L' (fk u).2.2, e, hE, hx k u L' hp hle hL', hP, hD⟩, hF⟩)
section KQ
variable {Xw : va_W} {G : kGt} {p : Program} {l : Launch} {e : Env} {R : Room} {s : State} {m : MethodId} {args : Array Value} {below : List Frame} {meth : Method} {c : Code} {H : Heap} {locs : List Loc} {cells slots : Nat} {Q : State → Prop}
variable {cc : ByteArray} {pc nL : Nat} {ls : Array Slot} {rest st : List Value} {own : String} {ret : Option FieldType} {D : va_G} {cl : List vw_C} {tys tyc : List (ClassId × FieldType)} {A : Nat → Prop} {kd0 an0 kd an : Nat → Nat} {f : Nat → va_E} {L : List Nat} {b : Nat}
variable {y : MethodName} {bytes : ByteArray} {maxL n index : Nat} {rety : Option FieldType} {rm : Room} {Qc : Array Value → State → Outcome → State → Prop} {C : String} {As : List Value} {mc ms : Nat} {wr wc : va_W}
theorem q_K {U : State} (h : va_K D cl tys U) (ht : ∀ q, q ∈ tyc → q ∈ tys) : va_K D cl tyc U := ⟨h.1, fun k q hk => by
  obtain ⟨i, hi⟩ := List.mem_iff_getElem?.mp (ht q (List.mem_of_getElem? hk))
  exact h.2 i q hi⟩
/-- the world at hand, its block wc apart -/
theorem q_at (h : kHp Xw D cl A s.heap H locs kd0 an0 kd an f) (hX : Xw.Perm (wr ++ wc)) : ∃ L : List Nat, kDom L kd ∧ kH D cl A s.heap H locs ((wr ++ va_pl L f) ++ wc) := by
  obtain ⟨L, hL, hH⟩ := h.2
  refine ⟨L, hL, q_H hH ?_⟩
  refine (hX.append_right (va_pl L f)).trans ?_
  rw [List.append_assoc, List.append_assoc]
  exact List.Perm.append_left wr List.perm_append_comm
theorem q_back (h : kHp Xw D cl A s.heap H locs kd0 an0 kd an f) (hL : kDom L kd) (hH : kH D cl A s.heap H locs ((wr ++ va_pl L f) ++ wc)) {H1 : Heap} {locs1 : List Loc} {w' : va_W} (hk : ∀ q : Nat, q < H.size → ¬ va_A wc H.size q → H1[q]? = H[q]?) (hB : va_P D cl w' H1 ∧ va_D (va_A wc H.size) w') (hS : va_S A s.heap H1 locs1) : kHp (wr ++ w') D cl A s.heap H1 locs1 kd0 an0 kd an f := by
  have hF : ∀ q, va_A wc H.size q → A q := by
    rintro q (⟨k, e, hk⟩ | hq)
    · exact (q_Di.mp hH.2.1).2 _ (List.mem_append_right _ (List.mem_of_getElem? hk))
    · exact hH.2.2.2 q (Nat.le_trans hH.2.2.1.1 hq)
  obtain ⟨jP, jD⟩ := q_join hH.1 hH.2.1 hk hF hB.1 hB.2
  refine ⟨h.1, L, hL, q_H ⟨jP, jD, hS, hH.2.2.2⟩ ?_⟩
  rw [List.append_assoc, List.append_assoc]
  exact List.Perm.append_left wr List.perm_append_comm
theorem q_free (hH : kH D cl A s.heap H locs ((wr ++ va_pl L f) ++ wc)) : ∀ q, va_A wc H.size q → A q := by
  rintro q (⟨k, e, hk⟩ | hq)
  · exact (q_Di.mp hH.2.1).2 _ (List.mem_append_right _ (List.mem_of_getElem? hk))
  · exact hH.2.2.2 q (Nat.le_trans hH.2.2.1.1 hq)
theorem q_pre (X : kXp G p s m args meth c cc nL own ret D cl tys A) (hH : kH D cl A s.heap H locs ((wr ++ va_pl L f) ++ wc)) (ht : ∀ q, q ∈ tyc → q ∈ tys) (av : List Value) (U : State) (hU : U.heap = H) (hW : s.WarmedH U.vm) : kPq G D cl tyc av H.size wc av.toArray U :=
  ⟨rfl, by rw [hU], by rw [hU]; exact q_P hH.1 (fun q hq => List.mem_append_right _ hq), va_K.moved hW.alike (q_K X.1.2.2.2 ht), q_Di.mpr ⟨by
    have := (q_Di.mp hH.2.1).1
    rw [List.map_append, List.nodup_append] at this
    exact this.2.1, fun _ _ => trivial⟩, X.2.1.warm hW, by rw [hU]; exact X.2.2.1 A _ s U s.heap H hW X.2.2.2.1 (fun q _ h => q_free hH q h) hH.2.2.1.2.1⟩
theorem q_recv (X : kXp G p s m args meth c cc nL own ret D cl tys A) (hH : kH D cl A s.heap H locs ((wr ++ va_pl L f) ++ wc)) {ci : Nat} {fs : List Value} {r : vw_C} (hb : (b, .inr (ci, fs)) ∈ wc) (hc : cl[ci]? = some r) : ∃ cell : Cell, H[b]? = some cell ∧ cell.vm.isStatics = false ∧ s.vm.findClass r.1 = some cell.cls := by
  obtain ⟨i, hi⟩ := List.mem_iff_getElem?.mp (List.mem_append_right (wr ++ va_pl L f) hb)
  exact va_recv X.1.2.2.2 hH.1 hc (q0 := i) (fs := fs) hi
theorem q_runV (X : kXp G p s m args meth c cc nL own ret D cl tys A) (hH : kH D cl A s.heap H locs ((wr ++ va_pl L f) ++ wc)) (ht : ∀ q, q ∈ tyc → q ∈ tys) {ci : Nat} {fs : List Value} {T : u_T} {N : Nat} (hb : (b, .inr (ci, fs)) ∈ wc) (hc : cl[ci]? = some (C, T, N)) (hM : Met l y (ws_ y bytes maxL rety) rm (kPq G D cl tyc (.ref b :: As) H.size wc) Qc mc ms (va_A wc H.size))
    (cw : CallW R s args own C index y bytes maxL rety (ws_ y bytes maxL rety) rm mc ms n) (hn : As.length = n) (hsize : ls.size = nL) (hst : st = As.reverse ++ .ref b :: rest) (hW : (rest.map fun v => v.category).sum ≤ 8) (hdg : decode cc pc = .ok (.invokevirtual index, 3)) (hf : cells + mc ≤ R.cells ∧ slots + ms ≤ R.slots) :
    va_Run p l e R s m args below meth c H locs cells slots mc ms (F0 m pc ls st) rest (Qc (Value.ref b :: As).toArray) (va_A wc H.size) := by
  subst hst
  exact va_runV X.1.1 hM cw ⟨kPq_blind X.2.2.1, q_recv X hH hb hc, fun U hU hW => q_pre X hH ht _ U hU hW⟩ rfl hn hsize rfl (lv_room hW) hdg hf
/-- a call to a room's method: int -/
theorem q_i {J : Int → va_W → Prop} {ar : Array Value} (h : kHp Xw D cl A s.heap H locs kd0 an0 kd an f) (hX : Xw.Perm (wr ++ wc)) (hr : ∀ L : List Nat, kDom L kd → kH D cl A s.heap H locs ((wr ++ va_pl L f) ++ wc) → va_Run p l e R s m args below meth c H locs cells slots mc ms (F0 m pc ls st) rest (va_Qi (fun r w' => J r.toInt w') (kBq D cl (va_A wc H.size)) (va_A wc H.size) ar) (va_A wc H.size))
    (kk : ∀ (r : Int32) (w' : va_W) (H1 : Heap) (locs1 : List Loc), J r.toInt w' → kHp (wr ++ w') D cl A s.heap H1 locs1 kd0 an0 kd an f → W p l e R s m args below meth c H1 locs1 (cells + mc) (slots + ms) Q (F0 m (pc + 3) ls (.int r :: rest))) : W p l e R s m args below meth c H locs cells slots Q (F0 m pc ls st) := by
  obtain ⟨L, hL, hH⟩ := q_at h hX
  refine va_calli (hr L hL hH) hH.2.2.1 (fun q _ z => q_free hH q z) (q_free hH) (fun r u t H1 locs1 ht hvm hp hB hz hk hS => ?_)
  subst ht
  exact kk r u t.heap locs1 hp (q_back h hL hH hk hB hS)
theorem q_l {J : Int → va_W → Prop} {ar : Array Value} (h : kHp Xw D cl A s.heap H locs kd0 an0 kd an f) (hX : Xw.Perm (wr ++ wc)) (hr : ∀ L : List Nat, kDom L kd → kH D cl A s.heap H locs ((wr ++ va_pl L f) ++ wc) → va_Run p l e R s m args below meth c H locs cells slots mc ms (F0 m pc ls st) rest (va_Ql (fun r w' => J r.toInt w') (kBq D cl (va_A wc H.size)) (va_A wc H.size) ar) (va_A wc H.size))
    (kk : ∀ (r : Int64) (w' : va_W) (H1 : Heap) (locs1 : List Loc), J r.toInt w' → kHp (wr ++ w') D cl A s.heap H1 locs1 kd0 an0 kd an f → W p l e R s m args below meth c H1 locs1 (cells + mc) (slots + ms) Q (F0 m (pc + 3) ls (.long r :: rest))) : W p l e R s m args below meth c H locs cells slots Q (F0 m pc ls st) := by
  obtain ⟨L, hL, hH⟩ := q_at h hX
  refine va_calll (hr L hL hH) hH.2.2.1 (fun q _ z => q_free hH q z) (q_free hH) (fun r u t H1 locs1 ht hvm hp hB hz hk hS => ?_)
  subst ht
  exact kk r u t.heap locs1 hp (q_back h hL hH hk hB hS)
theorem q_v {J : va_W → Prop} {ar : Array Value} (h : kHp Xw D cl A s.heap H locs kd0 an0 kd an f) (hX : Xw.Perm (wr ++ wc)) (hr : ∀ L : List Nat, kDom L kd → kH D cl A s.heap H locs ((wr ++ va_pl L f) ++ wc) → va_Run p l e R s m args below meth c H locs cells slots mc ms (F0 m pc ls st) rest (va_Qv (fun w' => J w') (kBq D cl (va_A wc H.size)) (va_A wc H.size) ar) (va_A wc H.size))
    (kk : ∀ (w' : va_W) (H1 : Heap) (locs1 : List Loc), J w' → kHp (wr ++ w') D cl A s.heap H1 locs1 kd0 an0 kd an f → W p l e R s m args below meth c H1 locs1 (cells + mc) (slots + ms) Q (F0 m (pc + 3) ls rest)) : W p l e R s m args below meth c H locs cells slots Q (F0 m pc ls st) := by
  obtain ⟨L, hL, hH⟩ := q_at h hX
  refine va_callv (hr L hL hH) hH.2.2.1 (fun q _ z => q_free hH q z) (q_free hH) (fun u t H1 locs1 ht hvm hp hB hz hk hS => ?_)
  subst ht
  exact kk u t.heap locs1 hp (q_back h hL hH hk hB hS)
theorem q_xV (X : kXp G p s m args meth c cc nL own ret D cl tys A) (hH : kH D cl A s.heap H locs ((wr ++ va_pl L f) ++ wc)) (ht : ∀ q, q ∈ tyc → q ∈ tys) {ci : Nat} {fs : List Value} {T : u_T} {N : Nat} (hb : (b, .inr (ci, fs)) ∈ wc) (hc : cl[ci]? = some (C, T, N)) (hM : kMx l y (ws_ y bytes maxL rety) rm (kPq G D cl tyc (.ref b :: As) H.size wc) Qc mc ms (va_A wc H.size))
    (cw : CallW R s args own C index y bytes maxL rety (ws_ y bytes maxL rety) rm mc ms n) (hn : As.length = n) (hsize : ls.size = nL) (hst : st = As.reverse ++ .ref b :: rest) (hW : (rest.map fun v => v.category).sum ≤ 8) (hdg : decode cc pc = .ok (.invokevirtual index, 3)) (hf : cells + mc ≤ R.cells ∧ slots + ms ≤ R.slots) :
    kRn p l e R s m args below meth c H locs cells slots mc ms (F0 m pc ls st) rest (Qc (Value.ref b :: As).toArray) (va_A wc H.size) := by
  subst hst
  obtain ⟨⟨hrc, hrs, hfr, hlo, hws, hcw, hcode, hini, hy, hlen, hl⟩, hin, hse⟩ := cw
  obtain ⟨cellB, q1, q2, q3⟩ := q_recv X hH hb hc
  exact x_rn (ig := .invokevirtual index) (fun T hT XS => x_ivV XS X.1.1.1 X.1.1.2.2.2.1 hl hin hse hcode hy (by rw [hT]; exact q1) q2 q3 rfl (fun sig h => hn.trans (hlen sig h)) rfl (by rw [X.1.1.2.1]; exact hdg))
    (x_back (bytes := bytes) (maxL := maxL) (ret := rety) hM (kPq_blind X.2.2.1) hrc hrs hfr hlo hws hcw (fun a' U hW => word_at hW (Or.inl (by first | rfl | simp [Cond.onTables, Cond.keeps, Cond.steady])) hini)) (fun U hU hW => q_pre X hH ht _ U hU hW) rfl (by rw [X.2.2.2.2]; exact hsize) (by rw [X.1.1.2.1]; exact hdg) (lv_room hW) hf
/-- a call to a room's method that may throw -/
theorem q_x {J : Int → va_W → Prop} {Jx : Nat → va_W → Prop} {ar : Array Value} (h : kHp Xw D cl A s.heap H locs kd0 an0 kd an f) (hX : Xw.Perm (wr ++ wc)) (hr : ∀ L : List Nat, kDom L kd → kH D cl A s.heap H locs ((wr ++ va_pl L f) ++ wc) → kRn p l e R s m args below meth c H locs cells slots mc ms (F0 m pc ls st) rest (kXg (fun r : Int32 => some (.int r)) (fun r w' => J r.toInt w') Jx (kBq D cl (va_A wc H.size)) (va_A wc H.size) ar) (va_A wc H.size))
    (kk : ∀ (r : Int32) (w' : va_W) (H1 : Heap) (locs1 : List Loc), J r.toInt w' → kHp (wr ++ w') D cl A s.heap H1 locs1 kd0 an0 kd an f → W p l e R s m args below meth c H1 locs1 (cells + mc) (slots + ms) Q (F0 m (pc + 3) ls (.int r :: rest)))
    (kt : ∀ (k q : Nat) (w' : va_W) (H1 : Heap) (locs1 : List Loc), Jx k w' → kHp (wr ++ w') D cl A s.heap H1 locs1 kd0 an0 kd an f → kIsE k q s.vm H1 → kWx p l e R s m args below meth c H1 locs1 (cells + mc) (slots + ms) Q (F0 m pc ls rest) q) : W p l e R s m args below meth c H locs cells slots Q (F0 m pc ls st) := by
  obtain ⟨L, hL, hH⟩ := q_at h hX
  have hA := q_free hH
  intro T hT X
  obtain ⟨o, st₀, t, T', L1, h0, X', hL1, e1, e2, ⟨hq, hz, hk⟩, hst⟩ := hr L hL hH T hT X
  rw [h0] at hz hk
  have hS : va_S A s.heap t.heap (locs ++ L1) := ⟨Nat.le_trans hH.2.2.1.1 hz, fun q h1 h2 => by rw [hk q (Nat.lt_of_lt_of_le h1 hH.2.2.1.1) (fun z => h2 (hA q z))]; exact hH.2.2.1.2.1 q h1 h2, fun q hq => by
    rcases List.mem_append.mp hq with h | h
    · exact hH.2.2.1.2.2 q h
    · exact hA _ (hL1 q h)⟩
  rcases hq with ⟨r, u, rfl, hp, hB⟩ | ⟨k, q, u, rfl, hE, hp, hB⟩
  · obtain ⟨t2, a1, b1⟩ := kk r u t.heap (locs ++ L1) hp (q_back h hL hH hk hB hS) T' e1 X'
    exact ⟨t2, hst t2 a1, b1⟩
  · have hal : s.vm.Alike t.vm := by rw [← e2]; exact X'.warmed.alike
    obtain ⟨ce, c1, c2, c3⟩ := hE
    obtain ⟨t2, a1, b1⟩ := kt k q u t.heap (locs ++ L1) hp (q_back h hL hH hk hB hS) ⟨ce, c1, c2, by rw [hal.findClass] at c3; exact c3⟩ T' e1 X'
    exact ⟨t2, hst t2 a1, b1⟩
end KQ
