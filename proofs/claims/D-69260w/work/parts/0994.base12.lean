/-! BASE 12: 'throw new E()' as a row; calls of methods that may throw as rows -/
set_option maxRecDepth 100000
section KX12
variable {Xw : va_W} {G : kGt} {p : Program} {l : Launch} {e : Env} {R : Room} {s : State} {m : MethodId} {args : Array Value} {below : List Frame} {meth : Method} {c : Code} {H : Heap} {locs : List Loc} {cells slots : Nat} {Q : State → Prop}
variable {cc : ByteArray} {pc nL : Nat} {ls : Array Slot} {rest st : List Value} {own : String} {ret : Option FieldType} {D : va_G} {cl : List vw_C} {tys : List (ClassId × FieldType)} {A : Nat → Prop} {kd0 an0 kd an : Nat → Nat} {f : Nat → va_E} {L : List Nat} {a b K : Nat}
variable {x y : MethodName} {bytes : ByteArray} {maxL n index : Nat} {rety : Option FieldType} {rm : Room} {Qc : Array Value → State → Outcome → State → Prop} {C host owner : String} {As : List Value} {mc ms : Nat}
variable {ar : Array Value} {S : Type} {fk : S → (Nat → Nat) × (Nat → Nat) × (Nat → va_E)} {α : Type} {mkv : α → Option Value} {post : α → S → Prop} {px : Nat → S → Prop}
/-- the world stays when cells beyond it come -/
theorem p_grown (h : kHp Xw D cl A s.heap H locs kd0 an0 kd an f) {H1 : Heap} {ex : List Loc} (hz : H.size ≤ H1.size) (ho : ∀ q : Nat, q < H.size → H1[q]? = H[q]?) (hex : ∀ q ∈ ex, H.size ≤ q.base) : kHp Xw D cl A s.heap H1 (locs ++ ex) kd0 an0 kd an f := by
  obtain ⟨hle, L, hL, hP, hD, hS, hA⟩ := h
  refine ⟨hle, L, hL, hP.kept (fun k x hx => ho x.1 ((hP k x hx).lt)), hD, ⟨Nat.le_trans hS.1 hz, fun q h1 h2 => (ho q (Nat.lt_of_lt_of_le h1 hS.1)).trans (hS.2.1 q h1 h2), fun q hq => ?_⟩, hA⟩
  rcases List.mem_append.mp hq with h | h
  · exact hS.2.2 q h
  · exact hA _ (Nat.le_trans hS.1 (hex q h))
theorem p_xthrow (X : kXp G p s m args meth c cc nL own ret D cl tys A) (h : kHp Xw D cl A s.heap H locs kd0 an0 kd an f) (hNs : ∀ q, A q → ∀ cell : Cell, s.heap[q]? = some cell → cell.vm.isStatics = false) (htr : e.platform.stackTraces = false) (k : Nat) {ic : Nat} {names : List String}
    (hcl : Cond.classLink own index (kEx k) ∈ lw_all) (hinst : Cond.instantiable (kEx k) 6 ∈ lw_all) (hini : Cond.initialized (kEx k) ∈ lw_all) (hcls : Bundle.fit (kEx k) = true) (hnames : ∀ n ∈ names, Bundle.fit n = true) (hat : ∀ w ∈ Bundle.ownAtoms0 own ic (kEx k) names, w.before args s = true)
    (hd0 : decode cc pc = .ok (.new index, 3)) (hd3 : decode cc (pc + 3) = .ok (.dup, 1)) (hd4 : decode cc (pc + 3 + 1) = .ok (.invokespecial ic, 3)) (hd7 : decode cc (pc + 3 + 1 + 3) = .ok (.athrow, 1)) (hout : ∀ x ∈ c.exceptionTable.toList, covers x (pc + 3 + 1 + 3) = false)
    (hcells : cells + 1 ≤ R.cells) (hslots : slots + 6 ≤ R.slots) (hc1 : cells + 1 ≤ mc) (hc2 : slots + 6 ≤ ms) (hsize : ls.size = nL) (hRf : names.length + 3 < R.frames) (hRl : (rest.map fun v => v.category).sum + (13 * (names.length + 1) + 42) ≤ R.locals) (u : S) (hp : px k u) (hfk : fk u = (kd, an, f)) :
    W p l e R s m args below meth c H locs cells slots (kMQ below (kXg mkv post px (kBp Xw D cl A kd0 an0 fk) A) args s mc ms A) (F0 m pc ls rest) := by
  obtain ⟨cX, kX, hfX, hkX, -⟩ := Cond.instantiable_spec (X.1.1.2.2.2.2 _ hinst)
  refine W.newcK X.1.1.1 X.1.1.2.1 X.1.1.2.2.2.1 (X.1.1.2.2.2.2 _ hcl) (X.1.1.2.2.2.2 _ hinst) (X.1.1.2.2.2.2 _ hini) rfl hd0 hcells hslots hfX rfl fun H1 kC hkC e1 z1 o1 => ?_
  refine lv_dup X.1.1.1 X.1.1.2.1 hd3 rfl ?_
  have hG1 : kHp Xw D cl A s.heap H1 (locs ++ []) kd0 an0 kd an f := p_grown h (by omega) o1 (fun q hq => by cases hq)
  rw [List.append_nil] at hG1
  intro T hT XS
  cases hkX.symm.trans hkC
  have hHs := (p_S h).1
  obtain ⟨vm', ce, ex, hex, hv, hcc, X2, hst⟩ := x_ctor XS X.1.1.1 htr X.1.1.2.2.2.1 hcls hnames hat (fun x hx cell hc => hNs _ ((p_S h).2.2 x hx) cell hc) hfX hkC (a := H.size) (by rw [hT]; exact e1) hHs (g := F0 m (pc + 3 + 1) ls (.ref H.size :: .ref H.size :: rest)) rfl (by rw [X.2.2.2.2]; exact hsize) (rest := rest) rfl (by rw [X.1.1.2.1]; exact hd4) hRf (by show 2 * 0 + _ + _ ≤ _; simp only [List.map_cons, List.sum_cons]; show 2 * 0 + (1 + _) + _ ≤ _; omega)
  have hlt : H.size < T.heap.size := by rw [hT, z1]; omega
  have hU : ((T.setVm vm').setCell H.size ce).heap[H.size]? = some ce := heapAt_setCell_self (s := T.setVm vm') ce hlt
  have hne : ∀ q : Nat, q < H.size → ((T.setVm vm').setCell H.size ce).heap[q]? = H1[q]? := fun q hq => by
    rw [heapAt_setCell_ne (s := T.setVm vm') ce (Nat.ne_of_gt hq)]; show T.heap[q]? = _; rw [hT]
  have hG2 : kHp Xw D cl A s.heap ((T.setVm vm').setCell H.size ce).heap (locs ++ ex) kd0 an0 kd an f := p_grown h (by have := size_setCell (T.setVm vm') H.size ce; rw [this]; show H.size ≤ T.heap.size; omega) (fun q hq => (hne q hq).trans (o1 q hq)) (fun q hq => by rw [hex q hq]; exact Nat.le_refl _)
  have X3 := stand_widen X2 hc1 hc2
  obtain ⟨w1, w2, w3, w4, w5⟩ := X3.athrowLeaves X.1.1.1 (g := { (F0 m (pc + 3 + 1) ls (.ref H.size :: .ref H.size :: rest)) with stack := .ref H.size :: rest, pc := pc + 3 + 1 + 3 }) rfl rfl rfl hout (a := H.size) (rest := rest) rfl (by rw [X.1.1.2.1]; exact hd7) X.1.2.2.1
  refine ⟨_, hst _ w1, .threw H.size, w2, w3, ⟨Or.inr ⟨k, H.size, u, rfl, ⟨ce, hU, hv, ?_⟩, hp, p_B hG2 hfk rfl⟩, (p_S hG2).F rfl⟩, locs ++ ex, ⟨w4, w5⟩, (p_S hG2).2.2⟩
  rw [w4.alike.findClass, hcc]; exact hfX
/-- calls -/
theorem p_xV (X : kXp G p s m args meth c cc nL own ret D cl tys A) (hH : kH D cl A s.heap H locs (Xw ++ va_pl L f)) (hL : kDom L kd) (hk : kd b = K) (hK : K ≠ 0) {ci : Nat} {fs : List Value} {T : u_T} {N : Nat} (he : f b = .inr (ci, fs)) (hc : cl[ci]? = some (C, T, N)) (hM : kMx l y (ws_ y bytes maxL rety) rm (kPp Xw G D cl tys (.ref b :: As) H.size L f) Qc mc ms (va_A (Xw ++ va_pl L f) H.size))
    (cw : CallW R s args own C index y bytes maxL rety (ws_ y bytes maxL rety) rm mc ms n) (hn : As.length = n) (hsize : ls.size = nL) (hst : st = As.reverse ++ .ref b :: rest) (hW : (rest.map fun v => v.category).sum ≤ 8) (hdg : decode cc pc = .ok (.invokevirtual index, 3)) (hf : cells + mc ≤ R.cells ∧ slots + ms ≤ R.slots) :
    kRn p l e R s m args below meth c H locs cells slots mc ms (F0 m pc ls st) rest (Qc (Value.ref b :: As).toArray) (va_A (Xw ++ va_pl L f) H.size) := by
  subst hst
  obtain ⟨⟨hrc, hrs, hfr, hlo, hws, hcw, hcode, hini, hy, hlen, hl⟩, hin, hse⟩ := cw
  obtain ⟨cellB, q1, q2, q3⟩ := p_recv X hH hL hk hK he hc
  exact x_rn (ig := .invokevirtual index) (fun T hT XS => x_ivV XS X.1.1.1 X.1.1.2.2.2.1 hl hin hse hcode hy (by rw [hT]; exact q1) q2 q3 rfl (fun sig h => hn.trans (hlen sig h)) rfl (by rw [X.1.1.2.1]; exact hdg))
    (x_back (bytes := bytes) (maxL := maxL) (ret := rety) hM (kPp_blind X.2.2.1) hrc hrs hfr hlo hws hcw (fun a' U hW => word_at hW (Or.inl (by first | rfl | simp [Cond.onTables, Cond.keeps, Cond.steady])) hini)) (fun U hU hW => p_pre X hH _ U hU hW) rfl (by rw [X.2.2.2.2]; exact hsize) (by rw [X.1.1.2.1]; exact hdg) (lv_room hW) hf
theorem p_xVN (X : kXp G p s m args meth c cc nL own ret D cl tys A) (hH : kH D cl A s.heap H locs (Xw ++ va_pl L f)) (hL : kDom L kd) (hk : kd b = K) (hK : K ≠ 0) {ci : Nat} {fs : List Value} {T : u_T} {N : Nat} (he : f b = .inr (ci, fs)) (hc : cl[ci]? = some (C, T, N)) (hM : kMx l y (ws_ y bytes maxL rety) rm (kPp Xw G D cl tys (.ref b :: As) H.size L f) Qc mc ms (va_A (Xw ++ va_pl L f) H.size))
    (cw : va_CN R s args own index y host bytes maxL rety (ws_ y bytes maxL rety) rm mc ms n ∧ (Cond.instanceMethod y).before args s = true ∧ (Cond.selects C y y).before args s = true) (hn : As.length = n) (hsize : ls.size = nL) (hst : st = As.reverse ++ .ref b :: rest) (hW : (rest.map fun v => v.category).sum ≤ 8) (hdg : decode cc pc = .ok (.invokevirtual index, 3)) (hf : cells + mc ≤ R.cells ∧ slots + ms ≤ R.slots) :
    kRn p l e R s m args below meth c H locs cells slots mc ms (F0 m pc ls st) rest (Qc (Value.ref b :: As).toArray) (va_A (Xw ++ va_pl L f) H.size) := by
  subst hst
  obtain ⟨⟨⟨hrc, hrs, hfr, hlo, hws, hcw⟩, hcode, hini, hy, hlen, hl⟩, hin, hse⟩ := cw
  obtain ⟨cellB, q1, q2, q3⟩ := p_recv X hH hL hk hK he hc
  exact x_rn (ig := .invokevirtual index) (fun T hT XS => x_ivVN XS X.1.1.1 X.1.1.2.2.2.1 hl hin hse hcode hy (by rw [hT]; exact q1) q2 q3 rfl (fun sig h => hn.trans (hlen sig h)) rfl (by rw [X.1.1.2.1]; exact hdg))
    (x_back (bytes := bytes) (maxL := maxL) (ret := rety) hM (kPp_blind X.2.2.1) hrc hrs hfr hlo hws hcw (fun a' U hW => word_at hW (Or.inl (by first | rfl | simp [Cond.onTables, Cond.keeps, Cond.steady])) hini)) (fun U hU hW => p_pre X hH _ U hU hW) rfl (by rw [X.2.2.2.2]; exact hsize) (by rw [X.1.1.2.1]; exact hdg) (lv_room hW) hf
theorem p_xU (X : kXp G p s m args meth c cc nL own ret D cl tys A) (hH : kH D cl A s.heap H locs (Xw ++ va_pl L f)) (hL : kDom L kd) (hk : kd b = K) (hK : K ≠ 0) {ci : Nat} {fs : List Value} {T : u_T} {N : Nat} (he : f b = .inr (ci, fs)) (hc : cl[ci]? = some (C, T, N)) (hM : kMx l y (ws_ y bytes maxL rety) rm (kPp Xw G D cl tys (.ref b :: As) H.size L f) Qc mc ms (va_A (Xw ++ va_pl L f) H.size))
    (cw : va_CU R s args own C owner index x y bytes maxL rety (ws_ y bytes maxL rety) rm mc ms n) (hn : As.length = n) (hsize : ls.size = nL) (hst : st = As.reverse ++ .ref b :: rest) (hW : (rest.map fun v => v.category).sum ≤ 8) (hdg : decode cc pc = .ok (.invokevirtual index, 3)) (hf : cells + mc ≤ R.cells ∧ slots + ms ≤ R.slots) :
    kRn p l e R s m args below meth c H locs cells slots mc ms (F0 m pc ls st) rest (Qc (Value.ref b :: As).toArray) (va_A (Xw ++ va_pl L f) H.size) := by
  subst hst
  obtain ⟨hrc, hrs, hfr, hlo, hws, hcw⟩ := cw.back
  obtain ⟨cellB, q1, q2, q3⟩ := p_recv X hH hL hk hK he hc
  exact x_rn (ig := .invokevirtual index) (fun T hT XS => x_ivU XS X.1.1.1 X.1.1.2.2.2.1 cw.link cw.same cw.decl cw.notMH cw.sel cw.inst (by rw [hT]; exact q1) q2 q3 rfl (fun sig h => hn.trans (cw.len sig h)) rfl (by rw [X.1.1.2.1]; exact hdg))
    (x_back (bytes := bytes) (maxL := maxL) (ret := rety) hM (kPp_blind X.2.2.1) hrc hrs hfr hlo hws hcw (fun a' U hW => word_at hW (Or.inl (by first | rfl | simp [Cond.onTables, Cond.keeps, Cond.steady])) cw.init)) (fun U hU hW => p_pre X hH _ U hU hW) rfl (by rw [X.2.2.2.2]; exact hsize) (by rw [X.1.1.2.1]; exact hdg) (lv_room hW) hf
theorem p_xS (X : kXp G p s m args meth c cc nL own ret D cl tys A) (hH : kH D cl A s.heap H locs (Xw ++ va_pl L f)) (hM : kMx l y (ws_ y bytes maxL rety) rm (kPp Xw G D cl tys As H.size L f) Qc mc ms (va_A (Xw ++ va_pl L f) H.size))
    (cw : CallB R s args own index y bytes maxL rety (ws_ y bytes maxL rety) rm mc ms n ∧ (Cond.static y).before args s = true) (hn : As.length = n) (hsize : ls.size = nL) (hst : st = As.reverse ++ rest) (hW : (rest.map fun v => v.category).sum ≤ 8) (hdg : decode cc pc = .ok (.invokestatic index, 3)) (hf : cells + mc ≤ R.cells ∧ slots + ms ≤ R.slots) :
    kRn p l e R s m args below meth c H locs cells slots mc ms (F0 m pc ls st) rest (Qc As.toArray) (va_A (Xw ++ va_pl L f) H.size) := by
  subst hst
  obtain ⟨⟨hrc, hrs, hfr, hlo, hws, hcw, hcode, hini, hy, hlen, hl⟩, hse⟩ := cw
  exact x_rn (ig := .invokestatic index) (fun T hT XS => x_ivS XS X.1.1.1 X.1.1.2.2.2.1 hl hse hini hcode hy rfl (fun sig h => hn.trans (hlen sig h)) rfl (by rw [X.1.1.2.1]; exact hdg))
    (x_back (bytes := bytes) (maxL := maxL) (ret := rety) hM (kPp_blind X.2.2.1) hrc hrs hfr hlo hws hcw (fun a' U hW => word_at hW (Or.inl (by first | rfl | simp [Cond.onTables, Cond.keeps, Cond.steady])) hini)) (fun U hU hW => p_pre X hH _ U hU hW) rfl (by rw [X.2.2.2.2]; exact hsize) (by rw [X.1.1.2.1]; exact hdg) (lv_room hW) hf
theorem p_xSN (X : kXp G p s m args meth c cc nL own ret D cl tys A) (hH : kH D cl A s.heap H locs (Xw ++ va_pl L f)) (hM : kMx l y (ws_ y bytes maxL rety) rm (kPp Xw G D cl tys As H.size L f) Qc mc ms (va_A (Xw ++ va_pl L f) H.size))
    (cw : va_CN R s args own index y host bytes maxL rety (ws_ y bytes maxL rety) rm mc ms n ∧ (Cond.static y).before args s = true ∧ True) (hn : As.length = n) (hsize : ls.size = nL) (hst : st = As.reverse ++ rest) (hW : (rest.map fun v => v.category).sum ≤ 8) (hdg : decode cc pc = .ok (.invokestatic index, 3)) (hf : cells + mc ≤ R.cells ∧ slots + ms ≤ R.slots) :
    kRn p l e R s m args below meth c H locs cells slots mc ms (F0 m pc ls st) rest (Qc As.toArray) (va_A (Xw ++ va_pl L f) H.size) := by
  subst hst
  obtain ⟨⟨⟨hrc, hrs, hfr, hlo, hws, hcw⟩, hcode, hini, hy, hlen, hl⟩, hse, -⟩ := cw
  exact x_rn (ig := .invokestatic index) (fun T hT XS => x_ivSN XS X.1.1.1 X.1.1.2.2.2.1 hl hse hini hcode hy rfl (fun sig h => hn.trans (hlen sig h)) rfl (by rw [X.1.1.2.1]; exact hdg))
    (x_back (bytes := bytes) (maxL := maxL) (ret := rety) hM (kPp_blind X.2.2.1) hrc hrs hfr hlo hws hcw (fun a' U hW => word_at hW (Or.inl (by first | rfl | simp [Cond.onTables, Cond.keeps, Cond.steady])) hini)) (fun U hU hW => p_pre X hH _ U hU hW) rfl (by rw [X.2.2.2.2]; exact hsize) (by rw [X.1.1.2.1]; exact hdg) (lv_room hW) hf
end KX12
