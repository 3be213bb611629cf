/-! BASE 27: a shell makes a room: a new block, and its constructor by contract -/
section KX27
variable {Xw : va_W} {G : kGt} {p : Program} {l : Launch} {e : Env} {R : Room} {s : State} {m : MethodId} {args : Array Value} {below : List Frame} {meth : Method} {c : Code} {H : Heap} {locs : List Loc} {cells slots : Nat} {Q : State → Prop}
variable {cc : ByteArray} {pc nL : Nat} {ls : Array Slot} {rest st : List Value} {own : String} {ret : Option FieldType} {D : va_G} {cl : List vw_C} {tys tyc : List (ClassId × FieldType)} {A : Nat → Prop} {H0 : Heap} {kd0 an0 kd an : Nat → Nat} {f : Nat → va_E} {b : Nat} {L : List Nat}
variable {y : MethodName} {bytes : ByteArray} {maxL n index : Nat} {rm : Room} {Qc : Array Value → State → Outcome → State → Prop} {As : List Value} {mc ms : Nat} {wr wc : va_W}
theorem s_new (X : kXp G p s m args meth c cc nL own ret D cl tys A) (h : kHp Xw D cl A H0 H locs kd0 an0 kd an f) {C : String} {T : u_T} {N ci : Nat} (hin : ∀ w ∈ u_ws C T N, w ∈ lw_all) {ty0 : Nat → FieldType} (hty : ∀ k, k < N → parseFieldDescriptor (T k).2.2.1 = some (ty0 k)) (hcl : Cond.classLink own index C ∈ lw_all) (hinst : Cond.instantiable C N ∈ lw_all) (hini : Cond.initialized C ∈ lw_all) (hc : cl[ci]? = some (C, T, N)) {fs : List Value} (hfs : ∀ j, j < N → defaultValue (ty0 j) = vp_V fs j) (hcells : cells + 1 ≤ R.cells) (hslots : slots + N ≤ R.slots) (hdg : decode cc pc = .ok (.new index, 3))
    (kk : ∀ (q : Nat) (H1 : Heap), kHp (Xw ++ [(q, .inr (ci, fs))]) D cl A H0 H1 locs kd0 an0 kd an f → W p l e R s m args below meth c H1 locs (cells + 1) (slots + N) Q (F0 m (pc + 3) ls (.ref q :: rest))) : W p l e R s m args below meth c H locs cells slots Q (F0 m pc ls rest) := by
  obtain ⟨hle, L, hL, hH⟩ := h
  refine va_new X.1.1.1 X.1.1.2.1 X.1.1.2.2.2.2 hin ty0 hty X.1.1.2.2.2.1 (X.1.1.2.2.2.2 _ hcl) (X.1.1.2.2.2.2 _ hinst) (X.1.1.2.2.2.2 _ hini) X.1.2.2.2 hH.1 hH.2.1 hH.2.2.1 hH.2.2.2 hc hfs hcells hslots hdg (fun q H1 h1 h2 h3 => ?_)
  refine kk q H1 ⟨hle, L, hL, q_H ⟨h1, h2, h3, hH.2.2.2⟩ ?_⟩
  rw [List.append_assoc, List.append_assoc]
  exact List.Perm.append_left Xw List.perm_append_comm
theorem q_runI (X : kXp G p s m args meth c cc nL own ret D cl tys A) (hH : kH D cl A s.heap H locs ((wr ++ va_pl L f) ++ wc)) (ht : ∀ q, q ∈ tyc → q ∈ tys) (hM : Met l y (ws_ y bytes maxL none) rm (kPq G D cl tyc (.ref b :: As) H.size wc) Qc mc ms (va_A wc H.size))
    (cw : CallB R s args own index y bytes maxL none (ws_ y bytes maxL none) rm mc ms n ∧ y.name = "<init>" ∧ (Cond.instanceMethod y).before args s = true) (hn : As.length = n) (hsize : ls.size = nL) (hst : st = As.reverse ++ .ref b :: rest) (hW : (rest.map fun v => v.category).sum ≤ 8) (hdg : decode cc pc = .ok (.invokespecial index, 3)) (hf : cells + mc ≤ R.cells ∧ slots + ms ≤ R.slots) :
    va_Run p l e R s m args below meth c H locs cells slots mc ms (F0 m pc ls st) rest (Qc (Value.ref b :: As).toArray) (va_A wc H.size) := by
  subst hst
  exact va_runI X.1.1 hM cw ⟨kPq_blind X.2.2.1, fun U hU hW => q_pre X hH ht _ U hU hW⟩ rfl hn hsize rfl (lv_room hW) hdg hf
theorem s_ctor {e0 : va_E} {Jv : va_W → Prop} (X : kXp G p s m args meth c cc nL own ret D cl tys A) (h : kHp (Xw ++ [(b, e0)]) D cl A s.heap H locs kd0 an0 kd an f) (hk : kRv l G D cl tyc y (ws_ y bytes maxL none) rm (.ref b :: As) mc ms (fun w => w = [(b, e0)]) Jv) (ht : ∀ q, q ∈ tyc → q ∈ tys)
    (cw : CallB R s args own index y bytes maxL none (ws_ y bytes maxL none) rm mc ms n ∧ y.name = "<init>" ∧ (Cond.instanceMethod y).before args s = true) (hn : As.length = n) (hsize : ls.size = nL) (hst : st = As.reverse ++ .ref b :: rest) (hW : (rest.map fun v => v.category).sum ≤ 8) (hdg : decode cc pc = .ok (.invokespecial index, 3)) (hf : cells + mc ≤ R.cells ∧ slots + ms ≤ R.slots)
    (kk : ∀ (w' : va_W) (H1 : Heap) (locs1 : List Loc), Jv w' → kHp (Xw ++ w') D cl A s.heap H1 locs1 kd0 an0 kd an f → W p l e R s m args below meth c H1 locs1 (cells + mc) (slots + ms) Q (F0 m (pc + 3) ls rest)) : W p l e R s m args below meth c H locs cells slots Q (F0 m pc ls st) :=
  q_v (J := Jv) h (List.Perm.refl _) (fun L hL hH => q_runI X hH ht (hk _ _ rfl) cw hn hsize hst hW hdg hf) kk
end KX27
