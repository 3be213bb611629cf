/-! BASE 3: pool rows: new cells, ends, calls, casts -/
set_option maxRecDepth 100000
theorem p_cA {s : State} {c1 c2 : ClassId} {ty : FieldType} (h1 : va_RA s c1 ty) (h2 : va_RA s c2 ty) : c1 = c2 := by
  cases ty with
  | object C =>
    obtain ⟨-, -, -, -, -, e1⟩ := h1
    obtain ⟨-, -, -, -, -, e2⟩ := h2
    exact Option.some.inj (e1.symm.trans e2)
  | _ => exact Option.some.inj ((show s.vm.findClass _ = some c1 from h1).symm.trans h2)
section KP3
variable {Xw : va_W} {G : kGt} {p : Program} {l : Launch} {e : Env} {R : Room} {s : State} {m : MethodId} {args : Array Value} {below : List Frame} {meth : Method} {c : Code} {H : Heap} {locs : List Loc} {cells slots : Nat} {Q : State → Prop}
variable {cc : ByteArray} {pc nL : Nat} {ls : Array Slot} {rest st : List Value} {own : String} {ret : Option FieldType} {D : va_G} {cl : List vw_C} {tys : List (ClassId × FieldType)} {A : Nat → Prop} {H0 : Heap} {kd0 an0 kd an : Nat → Nat} {f : Nat → va_E} {a K : Nat}
theorem p_grow {L : List Nat} {q : Nat} {e0 : va_E} {an1 : Nat → Nat} {f1 : Nat → va_E} (hle : kLe kd0 an0 kd an) (hL : kDom L kd) (hH : kH D cl A H0 H locs (Xw ++ va_pl L f)) (hK : K ≠ 0) (ha : ∀ b, b ≠ q → an1 b = an b) {H1 : Heap} {locs1 : List Loc} (hf1 : va_up f q e0 = f1) (h1 : va_P D cl ((Xw ++ va_pl L f) ++ [(q, e0)]) H1) (h2 : va_D A ((Xw ++ va_pl L f) ++ [(q, e0)])) (h3 : va_S A H0 H1 locs1) : kd q = 0 ∧ kHp Xw D cl A H0 H1 locs1 kd0 an0 (va_up kd q K) an1 f1 := by
  have hq : q ∉ L := va_pl_fresh2 (X := Xw) h2
  have h0 : kd q = 0 := Classical.byContradiction fun z => hq ((hL q).mpr z)
  rw [List.append_assoc, va_pl_push hq] at h1 h2
  subst hf1
  refine ⟨h0, hle.tr (fun b hb => ?_), L ++ [q], hL.new hK, h1, h2, h3, hH.2.2.2⟩
  have hne : b ≠ q := fun z => hb (by rw [z]; exact h0)
  exact ⟨va_up_ne _ _ hne, ha b hne⟩
theorem p_new (X : kXp G p s m args meth c cc nL own ret D cl tys A) (h : kHp Xw D cl A H0 H locs kd0 an0 kd an f) (K : Nat) (hK : K ≠ 0) {C : String} {T : u_T} {N ci index : Nat} (hin : ∀ w ∈ u_ws C T N, w ∈ lw_all) {ty0 : Nat → FieldType} (hty : ∀ k, k < N → parseFieldDescriptor (T k).2.2.1 = some (ty0 k)) (hcl : Cond.classLink own index C ∈ lw_all) (hinst : Cond.instantiable C N ∈ lw_all) (hini : Cond.initialized C ∈ lw_all) (hc : cl[ci]? = some (C, T, N)) {fs : List Value} (hfs : ∀ j, j < N → defaultValue (ty0 j) = vp_V fs j) (hcells : cells + 1 ≤ R.cells) (hslots : slots + N ≤ R.slots) (hdg : decode cc pc = .ok (.new index, 3)) {f1 : Nat → Nat → va_E} (hf1 : ∀ q, va_up f q (.inr (ci, fs)) = f1 q)
    (kk : ∀ (q : Nat) (H1 : Heap), kd q = 0 → kHp Xw D cl A H0 H1 locs kd0 an0 (va_up kd q K) an (f1 q) → W p l e R s m args below meth c H1 locs (cells + 1) (slots + N) Q (F0 m (pc + 3) ls (.ref q :: rest))) : W p l e R s m args below meth c H locs cells slots Q (F0 m pc ls rest) := by
  obtain ⟨hle, L, hL, hH⟩ := h
  refine va_new X.1.1.1 X.1.1.2.1 X.1.1.2.2.2.2 hin ty0 hty X.1.1.2.2.2.1 (X.1.1.2.2.2.2 _ hcl) (X.1.1.2.2.2.2 _ hinst) (X.1.1.2.2.2.2 _ hini) X.1.2.2.2 hH.1 hH.2.1 hH.2.2.1 hH.2.2.2 hc hfs hcells hslots hdg (fun q H1 h1 h2 h3 => ?_)
  obtain ⟨g1, g2⟩ := p_grow hle hL hH hK (fun _ _ => rfl) (hf1 q) h1 h2 h3
  exact kk q H1 g1 g2
theorem p_newa (X : kXp G p s m args meth c cc nL own ret D cl tys A) (h : kHp Xw D cl A H0 H locs kd0 an0 kd an f) (K : Nat) (hK : K ≠ 0) {atype : ArrayType} {ty : FieldType} (harr : Cond.arrayClass ty ∈ lw_all) (hty : newarray.typeOf atype = ty) {c0 : ClassId} (t0 : Nat) (ht : tys[t0]? = some (c0, ty)) {n : Int32} {ct : (Nat → Int32) ⊕ ((Nat → Int64) ⊕ ((Nat → UInt32) ⊕ ((Nat → UInt64) ⊕ (Nat → Option Nat))))} (ha : ∀ cA : ClassId, vp_cell cA (n.toNatClampNeg, ct) = arrV cA n.toNatClampNeg (fun _ => defaultValue ty)) (hn : ¬ n < 0) (hbytes : n.toNatClampNeg * componentBytes ty ≤ 536870912) (hcells : cells + 1 ≤ R.cells) (hslots : slots + n.toNatClampNeg ≤ R.slots) (hdg : decode cc pc = .ok (.newarray atype, 2)) {f1 : Nat → Nat → va_E} (hf1 : ∀ q, va_up f q (.inl (c0, n.toNatClampNeg, ct)) = f1 q)
    (kk : ∀ (q : Nat) (H1 : Heap), kd q = 0 → kHp Xw D cl A H0 H1 locs kd0 an0 (va_up kd q K) (va_up an q n.toNatClampNeg) (f1 q) → W p l e R s m args below meth c H1 locs (cells + 1) (slots + n.toNatClampNeg) Q (F0 m (pc + 2) ls (.ref q :: rest))) : W p l e R s m args below meth c H locs cells slots Q (F0 m pc ls (.int n :: rest)) := by
  obtain ⟨hle, L, hL, hH⟩ := h
  refine va_newa X.1.1.1 X.1.1.2.1 (by rw [hty]; exact X.1.1.2.2.2.2 _ harr) hty X.1.2.2.2 hH.1 hH.2.1 hH.2.2.1 hH.2.2.2 ha hn rfl hbytes hcells hslots hdg (fun q cA H1 hK1 h1 h2 h3 => ?_)
  have e1 := (hK1.2 tys.length (cA, ty) (by rw [List.getElem?_append_right (Nat.le_refl _), Nat.sub_self]; rfl)).2
  have e2 := (X.1.2.2.2.2 t0 _ ht).2
  have e3 : cA = c0 := p_cA e1 e2
  subst e3
  obtain ⟨g1, g2⟩ := p_grow hle hL hH hK (an1 := va_up an q n.toNatClampNeg) (fun b hb => va_up_ne _ _ hb) (hf1 q) h1 h2 h3
  exact kk q H1 g1 g2
theorem p_newq (X : kXp G p s m args meth c cc nL own ret D cl tys A) (h : kHp Xw D cl A H0 H locs kd0 an0 kd an f) (K : Nat) (hK : K ≠ 0) {C : String} {index : Nat} (hcl : Cond.classLink own index C ∈ lw_all) (hao : Cond.arrayOver (.object C) ∈ lw_tbl) {c0 : ClassId} (t0 : Nat) (ht : tys[t0]? = some (c0, .object C)) {n : Int32} (hn : ¬ n < 0) (hbytes : n.toNatClampNeg * 4 ≤ 536870912) (hcells : cells + 1 ≤ R.cells) (hslots : slots + n.toNatClampNeg ≤ R.slots) (hdg : decode cc pc = .ok (.anewarray index, 3)) {f1 : Nat → Nat → va_E} (hf1 : ∀ q, va_up f q (.inl (c0, n.toNatClampNeg, .inr (.inr (.inr (.inr (fun _ => none)))))) = f1 q)
    (kk : ∀ (q : Nat) (H1 : Heap), kd q = 0 → kHp Xw D cl A H0 H1 locs kd0 an0 (va_up kd q K) (va_up an q n.toNatClampNeg) (f1 q) → W p l e R s m args below meth c H1 locs (cells + 1) (slots + n.toNatClampNeg) Q (F0 m (pc + 3) ls (.ref q :: rest))) : W p l e R s m args below meth c H locs cells slots Q (F0 m pc ls (.int n :: rest)) := by
  obtain ⟨hle, L, hL, hH⟩ := h
  refine va_newq X.1.1.1 X.1.1.2.1 X.1.1.2.2.2.1 (X.1.1.2.2.2.2 _ hcl) (X.2.1 _ hao rfl) X.1.2.2.2 hH.1 hH.2.1 hH.2.2.1 hH.2.2.2 hn rfl hbytes hcells hslots hdg (fun q cA H1 hK1 h1 h2 h3 => ?_)
  have e1 := (hK1.2 tys.length (cA, .object C) (by rw [List.getElem?_append_right (Nat.le_refl _), Nat.sub_self]; rfl)).2
  have e2 := (X.1.2.2.2.2 t0 _ ht).2
  have e3 : cA = c0 := p_cA e1 e2
  subst e3
  obtain ⟨g1, g2⟩ := p_grow hle hL hH hK (an1 := va_up an q n.toNatClampNeg) (fun b hb => va_up_ne _ _ hb) (hf1 q) h1 h2 h3
  exact kk q H1 g1 g2
-- ends
variable {mc ms : Nat} {S : Type} {fk : S → (Nat → Nat) × (Nat → Nat) × (Nat → va_E)}
theorem p_B (h : kHp Xw D cl A s.heap H locs kd0 an0 kd an f) {u : S} (hfk : fk u = (kd, an, f)) {t : State} (ht : t.heap = H) : kBp Xw D cl A kd0 an0 fk u t := by
  obtain ⟨hle, L, hL, hH⟩ := h
  unfold kBp
  rw [hfk, ht]
  exact ⟨hle, L, hL, hH.1, hH.2.1⟩
theorem p_S (h : kHp Xw D cl A s.heap H locs kd0 an0 kd an f) : va_S A s.heap H locs := by
  obtain ⟨-, L, -, hH⟩ := h
  exact hH.2.2.1
theorem p_iret {post : Int32 → S → Prop} {v : Int32} {ty : FieldType} (X : kXp G p s m args meth c cc nL own (some ty) D cl tys A) (h : kHp Xw D cl A s.heap H locs kd0 an0 kd an f) (hc1 : cells ≤ mc) (hc2 : slots ≤ ms) (u : S) (hp : post v u) (hfk : fk u = (kd, an, f)) (hn : narrow ty (.int v) = .int v) (hdg : decode cc pc = .ok (.ireturn, 1)) : W p l e R s m args below meth c H locs cells slots (MQ below (va_Qi post (kBp Xw D cl A kd0 an0 fk) A) args s mc ms A) (F0 m pc ls [.int v]) :=
  W.widen hc1 hc2 (W.zret (v := v) X.1.1.1 X.1.1.2.1 X.1.2.1 hn (fun t ht hW => ⟨⟨v, u, rfl, hp, p_B h hfk ht⟩, (p_S h).F ht⟩) (p_S h).2.2 hdg X.1.2.2.1)
theorem p_lret {post : Int64 → S → Prop} {v : Int64} (X : kXp G p s m args meth c cc nL own (some .long) D cl tys A) (h : kHp Xw D cl A s.heap H locs kd0 an0 kd an f) (hc1 : cells ≤ mc) (hc2 : slots ≤ ms) (u : S) (hp : post v u) (hfk : fk u = (kd, an, f)) (hdg : decode cc pc = .ok (.lreturn, 1)) : W p l e R s m args below meth c H locs cells slots (MQ below (va_Ql post (kBp Xw D cl A kd0 an0 fk) A) args s mc ms A) (F0 m pc ls [.long v]) :=
  W.widen hc1 hc2 (W.lret (v := v) X.1.1.1 X.1.1.2.1 X.1.2.1 (fun t ht hW => ⟨⟨v, u, rfl, hp, p_B h hfk ht⟩, (p_S h).F ht⟩) (p_S h).2.2 hdg X.1.2.2.1)
theorem p_vret {post : S → Prop} (X : kXp G p s m args meth c cc nL own none D cl tys A) (h : kHp Xw D cl A s.heap H locs kd0 an0 kd an f) (hc1 : cells ≤ mc) (hc2 : slots ≤ ms) (u : S) (hp : post u) (hfk : fk u = (kd, an, f)) (hdg : decode cc pc = .ok (.return_, 1)) : W p l e R s m args below meth c H locs cells slots (MQ below (va_Qv post (kBp Xw D cl A kd0 an0 fk) A) args s mc ms A) (F0 m pc ls []) :=
  W.widen hc1 hc2 (W.vret X.1.1.1 X.1.1.2.1 X.1.2.1 (fun t ht hW => ⟨⟨u, rfl, hp, p_B h hfk ht⟩, (p_S h).F ht⟩) (p_S h).2.2 hdg X.1.2.2.1)
theorem p_qret {post : Option Nat → S → Prop} {v : Option Nat} {ty : FieldType} (X : kXp G p s m args meth c cc nL own (some ty) D cl tys A) (h : kHp Xw D cl A s.heap H locs kd0 an0 kd an f) (hc1 : cells ≤ mc) (hc2 : slots ≤ ms) (u : S) (hp : post v u) (hfk : fk u = (kd, an, f)) (hrt : (∃ n, ty = .object n) ∨ ∃ t, ty = .array t) (hdg : decode cc pc = .ok (.areturn, 1)) : W p l e R s m args below meth c H locs cells slots (MQ below (va_Qq post (kBp Xw D cl A kd0 an0 fk) A) args s mc ms A) (F0 m pc ls [va_rf v]) :=
  W.widen hc1 hc2 (W.aret (v := va_rf v) X.1.1.1 X.1.1.2.1 X.1.2.1 hrt (va_rf_or v) (fun t ht hW => ⟨⟨v, u, rfl, hp, p_B h hfk ht⟩, (p_S h).F ht⟩) (p_S h).2.2 hdg X.1.2.2.1)
end KP3
section KC3
variable {Xw : va_W} {G : kGt} {p : Program} {l : Launch} {e : Env} {R : Room} {s : State} {m : MethodId} {args : Array Value} {below : List Frame} {meth : Method} {c : Code} {H : Heap} {locs : List Loc} {cells slots : Nat} {Q : State → Prop}
variable {cc : ByteArray} {pc nL : Nat} {ls : Array Slot} {rest st : List Value} {own : String} {ret : Option FieldType} {D : va_G} {cl : List vw_C} {tys : List (ClassId × FieldType)} {A : Nat → Prop} {kd0 an0 kd an : Nat → Nat} {f : Nat → va_E} {L : List Nat} {b K : Nat}
variable {y : MethodName} {bytes : ByteArray} {maxL n index : Nat} {rety : Option FieldType} {rm : Room} {Qc : Array Value → State → Outcome → State → Prop} {C host : String} {As : List Value} {mc ms : Nat}
theorem p_free (hH : kH D cl A s.heap H locs (Xw ++ va_pl L f)) : ∀ q, va_A (Xw ++ va_pl L f) H.size q → A q := k_free0 hH
theorem p_pre (X : kXp G p s m args meth c cc nL own ret D cl tys A) (hH : kH D cl A s.heap H locs (Xw ++ va_pl L f)) (av : List Value) (U : State) (hU : U.heap = H) (hW : s.WarmedH U.vm) : kPp Xw G D cl tys av H.size L f av.toArray U :=
  ⟨rfl, by rw [hU], by rw [hU]; exact hH.1, va_K.moved hW.alike X.1.2.2.2, hH.2.1.weaken (fun _ _ _ _ => trivial), X.2.1.warm hW, by rw [hU]; exact X.2.2.1 A _ s U s.heap H hW X.2.2.2.1 (fun q _ h => p_free hH q h) hH.2.2.1.2.1⟩
theorem p_recv (X : kXp G p s m args meth c cc nL own ret D cl tys A) (hH : kH D cl A s.heap H locs (Xw ++ va_pl L f)) (hL : kDom L kd) (hk : kd b = K) (hK : K ≠ 0) {ci : Nat} {fs : List Value} {r : vw_C} (he : f b = .inr (ci, fs)) (hc : cl[ci]? = some r) : ∃ cell : Cell, H[b]? = some cell ∧ cell.vm.isStatics = false ∧ s.vm.findClass r.1 = some cell.cls := by
  obtain ⟨q, hq⟩ := va_pl_get (X := Xw) (f := f) ((hL b).mpr (by rw [hk]; exact hK))
  exact va_recv X.1.2.2.2 hH.1 hc (q0 := q) (fs := fs) (by rw [← he]; exact hq)
theorem p_runV (X : kXp G p s m args meth c cc nL own ret D cl tys A) (hH : kH D cl A s.heap H locs (Xw ++ va_pl L f)) (hL : kDom L kd) (hk : kd b = K) (hK : K ≠ 0) {ci : Nat} {fs : List Value} {T : u_T} {N : Nat} (he : f b = .inr (ci, fs)) (hc : cl[ci]? = some (C, T, N)) (hM : Met l y (ws_ y bytes maxL rety) rm (kPp Xw G D cl tys (.ref b :: As) H.size L f) Qc mc ms (va_A (Xw ++ va_pl L f) H.size))
    (cw : CallW R s args own C index y bytes maxL rety (ws_ y bytes maxL rety) rm mc ms n) (hn : As.length = n) (hsize : ls.size = nL) (hst : st = As.reverse ++ .ref b :: rest) (hW : (rest.map fun v => v.category).sum ≤ 8) (hdg : decode cc pc = .ok (.invokevirtual index, 3)) (hf : cells + mc ≤ R.cells ∧ slots + ms ≤ R.slots) :
    va_Run p l e R s m args below meth c H locs cells slots mc ms (F0 m pc ls st) rest (Qc (Value.ref b :: As).toArray) (va_A (Xw ++ va_pl L f) H.size) := by
  subst hst
  exact va_runV X.1.1 hM cw ⟨kPp_blind X.2.2.1, p_recv X hH hL hk hK he hc, fun U hU hW => p_pre X hH _ U hU hW⟩ rfl hn hsize rfl (lv_room hW) hdg hf
theorem p_runVN (X : kXp G p s m args meth c cc nL own ret D cl tys A) (hH : kH D cl A s.heap H locs (Xw ++ va_pl L f)) (hL : kDom L kd) (hk : kd b = K) (hK : K ≠ 0) {ci : Nat} {fs : List Value} {T : u_T} {N : Nat} (he : f b = .inr (ci, fs)) (hc : cl[ci]? = some (C, T, N)) (hM : Met l y (ws_ y bytes maxL rety) rm (kPp Xw G D cl tys (.ref b :: As) H.size L f) Qc mc ms (va_A (Xw ++ va_pl L f) H.size))
    (cw : va_CN R s args own index y host bytes maxL rety (ws_ y bytes maxL rety) rm mc ms n ∧ (Cond.instanceMethod y).before args s = true ∧ (Cond.selects C y y).before args s = true) (hn : As.length = n) (hsize : ls.size = nL) (hst : st = As.reverse ++ .ref b :: rest) (hW : (rest.map fun v => v.category).sum ≤ 8) (hdg : decode cc pc = .ok (.invokevirtual index, 3)) (hf : cells + mc ≤ R.cells ∧ slots + ms ≤ R.slots) :
    va_Run p l e R s m args below meth c H locs cells slots mc ms (F0 m pc ls st) rest (Qc (Value.ref b :: As).toArray) (va_A (Xw ++ va_pl L f) H.size) := by
  subst hst
  exact va_runVN X.1.1 hM cw ⟨kPp_blind X.2.2.1, p_recv X hH hL hk hK he hc, fun U hU hW => p_pre X hH _ U hU hW⟩ rfl hn hsize rfl (lv_room hW) hdg hf
theorem p_runS (X : kXp G p s m args meth c cc nL own ret D cl tys A) (hH : kH D cl A s.heap H locs (Xw ++ va_pl L f)) (hM : Met l y (ws_ y bytes maxL rety) rm (kPp Xw G D cl tys As H.size L f) Qc mc ms (va_A (Xw ++ va_pl L f) H.size))
    (cw : CallB R s args own index y bytes maxL rety (ws_ y bytes maxL rety) rm mc ms n ∧ (Cond.static y).before args s = true) (hn : As.length = n) (hsize : ls.size = nL) (hst : st = As.reverse ++ rest) (hW : (rest.map fun v => v.category).sum ≤ 8) (hdg : decode cc pc = .ok (.invokestatic index, 3)) (hf : cells + mc ≤ R.cells ∧ slots + ms ≤ R.slots) :
    va_Run p l e R s m args below meth c H locs cells slots mc ms (F0 m pc ls st) rest (Qc As.toArray) (va_A (Xw ++ va_pl L f) H.size) := by
  subst hst
  exact va_runS X.1.1 hM cw ⟨kPp_blind X.2.2.1, fun U hU hW => p_pre X hH _ U hU hW⟩ rfl hn hsize rfl (lv_room hW) hdg hf
theorem p_runSN (X : kXp G p s m args meth c cc nL own ret D cl tys A) (hH : kH D cl A s.heap H locs (Xw ++ va_pl L f)) (hM : Met l y (ws_ y bytes maxL rety) rm (kPp Xw G D cl tys As H.size L f) Qc mc ms (va_A (Xw ++ va_pl L f) H.size))
    (cw : va_CN R s args own index y host bytes maxL rety (ws_ y bytes maxL rety) rm mc ms n ∧ (Cond.static y).before args s = true ∧ True) (hn : As.length = n) (hsize : ls.size = nL) (hst : st = As.reverse ++ rest) (hW : (rest.map fun v => v.category).sum ≤ 8) (hdg : decode cc pc = .ok (.invokestatic index, 3)) (hf : cells + mc ≤ R.cells ∧ slots + ms ≤ R.slots) :
    va_Run p l e R s m args below meth c H locs cells slots mc ms (F0 m pc ls st) rest (Qc As.toArray) (va_A (Xw ++ va_pl L f) H.size) := by
  subst hst
  exact va_runSN X.1.1 hM cw ⟨kPp_blind X.2.2.1, fun U hU hW => p_pre X hH _ U hU hW⟩ rfl hn hsize rfl (lv_room hW) hdg hf
theorem p_runI (X : kXp G p s m args meth c cc nL own ret D cl tys A) (hH : kH D cl A s.heap H locs (Xw ++ va_pl L f)) (hM : Met l y (ws_ y bytes maxL none) rm (kPp Xw G D cl tys (.ref b :: As) H.size L f) Qc mc ms (va_A (Xw ++ va_pl L f) H.size))
    (cw : CallB R s args own index y bytes maxL none (ws_ y bytes maxL none) rm mc ms n ∧ y.name = "<init>" ∧ (Cond.instanceMethod y).before args s = true) (hn : As.length = n) (hsize : ls.size = nL) (hst : st = As.reverse ++ .ref b :: rest) (hW : (rest.map fun v => v.category).sum ≤ 8) (hdg : decode cc pc = .ok (.invokespecial index, 3)) (hf : cells + mc ≤ R.cells ∧ slots + ms ≤ R.slots) :
    va_Run p l e R s m args below meth c H locs cells slots mc ms (F0 m pc ls st) rest (Qc (Value.ref b :: As).toArray) (va_A (Xw ++ va_pl L f) H.size) := by
  subst hst
  exact va_runI X.1.1 hM cw ⟨kPp_blind X.2.2.1, fun U hU hW => p_pre X hH _ U hU hW⟩ rfl hn hsize rfl (lv_room hW) hdg hf
theorem p_runIN (X : kXp G p s m args meth c cc nL own ret D cl tys A) (hH : kH D cl A s.heap H locs (Xw ++ va_pl L f)) (hM : Met l y (ws_ y bytes maxL none) rm (kPp Xw G D cl tys (.ref b :: As) H.size L f) Qc mc ms (va_A (Xw ++ va_pl L f) H.size))
    (cw : va_CN R s args own index y host bytes maxL none (ws_ y bytes maxL none) rm mc ms n ∧ y.name = "<init>" ∧ (Cond.instanceMethod y).before args s = true) (hn : As.length = n) (hsize : ls.size = nL) (hst : st = As.reverse ++ .ref b :: rest) (hW : (rest.map fun v => v.category).sum ≤ 8) (hdg : decode cc pc = .ok (.invokespecial index, 3)) (hf : cells + mc ≤ R.cells ∧ slots + ms ≤ R.slots) :
    va_Run p l e R s m args below meth c H locs cells slots mc ms (F0 m pc ls st) rest (Qc (Value.ref b :: As).toArray) (va_A (Xw ++ va_pl L f) H.size) := by
  subst hst
  exact va_runIN X.1.1 hM cw ⟨kPp_blind X.2.2.1, fun U hU hW => p_pre X hH _ U hU hW⟩ rfl hn hsize rfl (lv_room hW) hdg hf
variable {ar : Array Value} {S : Type} {fk : S → (Nat → Nat) × (Nat → Nat) × (Nat → va_E)}
theorem p_after (h : kHp Xw D cl A s.heap H locs kd0 an0 kd an f) (hH : kH D cl A s.heap H locs (Xw ++ va_pl L f)) {u : S} {t : State} (hB : kBp Xw D cl (va_A (Xw ++ va_pl L f) H.size) kd an fk u t) {locs1 : List Loc} (hS : va_S A s.heap t.heap locs1) : kLe kd an (fk u).1 (fk u).2.1 ∧ kHp Xw D cl A s.heap t.heap locs1 kd0 an0 (fk u).1 (fk u).2.1 (fk u).2.2 := by
  obtain ⟨hle, L', hL', hP, hD⟩ := hB
  exact ⟨hle, h.1.tr hle, L', hL', hP, hD.weaken (fun _ _ _ z => p_free hH _ z), hS, hH.2.2.2⟩
theorem p_i0 {post : Int32 → S → Prop} (h : kHp Xw D cl A s.heap H locs kd0 an0 kd an f) (hr : ∀ L : List Nat, kDom L kd → kH D cl A s.heap H locs (Xw ++ va_pl L f) → va_Run p l e R s m args below meth c H locs cells slots mc ms (F0 m pc ls st) rest (va_Qi post (kBp Xw D cl (va_A (Xw ++ va_pl L f) H.size) kd an fk) (va_A (Xw ++ va_pl L f) H.size) ar) (va_A (Xw ++ va_pl L f) H.size))
    (kk : ∀ (r : Int32) (u : S) (H1 : Heap) (locs1 : List Loc), post r u → kLe kd an (fk u).1 (fk u).2.1 → kHp Xw D cl A s.heap H1 locs1 kd0 an0 (fk u).1 (fk u).2.1 (fk u).2.2 → W p l e R s m args below meth c H1 locs1 (cells + mc) (slots + ms) Q (F0 m (pc + 3) ls (.int r :: rest))) : W p l e R s m args below meth c H locs cells slots Q (F0 m pc ls st) := by
  obtain ⟨L, hL, hH⟩ := h.2
  refine va_calli (hr L hL hH) hH.2.2.1 (fun q _ z => p_free hH q z) (p_free hH) (fun r u t H1 locs1 ht hvm hp hB hz hk hS => ?_)
  subst ht
  obtain ⟨g1, g2⟩ := p_after h hH hB hS
  exact kk r u t.heap locs1 hp g1 g2
theorem p_l0 {post : Int64 → S → Prop} (h : kHp Xw D cl A s.heap H locs kd0 an0 kd an f) (hr : ∀ L : List Nat, kDom L kd → kH D cl A s.heap H locs (Xw ++ va_pl L f) → va_Run p l e R s m args below meth c H locs cells slots mc ms (F0 m pc ls st) rest (va_Ql post (kBp Xw D cl (va_A (Xw ++ va_pl L f) H.size) kd an fk) (va_A (Xw ++ va_pl L f) H.size) ar) (va_A (Xw ++ va_pl L f) H.size))
    (kk : ∀ (r : Int64) (u : S) (H1 : Heap) (locs1 : List Loc), post r u → kLe kd an (fk u).1 (fk u).2.1 → kHp Xw D cl A s.heap H1 locs1 kd0 an0 (fk u).1 (fk u).2.1 (fk u).2.2 → W p l e R s m args below meth c H1 locs1 (cells + mc) (slots + ms) Q (F0 m (pc + 3) ls (.long r :: rest))) : W p l e R s m args below meth c H locs cells slots Q (F0 m pc ls st) := by
  obtain ⟨L, hL, hH⟩ := h.2
  refine va_calll (hr L hL hH) hH.2.2.1 (fun q _ z => p_free hH q z) (p_free hH) (fun r u t H1 locs1 ht hvm hp hB hz hk hS => ?_)
  subst ht
  obtain ⟨g1, g2⟩ := p_after h hH hB hS
  exact kk r u t.heap locs1 hp g1 g2
theorem p_v0 {post : S → Prop} (h : kHp Xw D cl A s.heap H locs kd0 an0 kd an f) (hr : ∀ L : List Nat, kDom L kd → kH D cl A s.heap H locs (Xw ++ va_pl L f) → va_Run p l e R s m args below meth c H locs cells slots mc ms (F0 m pc ls st) rest (va_Qv post (kBp Xw D cl (va_A (Xw ++ va_pl L f) H.size) kd an fk) (va_A (Xw ++ va_pl L f) H.size) ar) (va_A (Xw ++ va_pl L f) H.size))
    (kk : ∀ (u : S) (H1 : Heap) (locs1 : List Loc), post u → kLe kd an (fk u).1 (fk u).2.1 → kHp Xw D cl A s.heap H1 locs1 kd0 an0 (fk u).1 (fk u).2.1 (fk u).2.2 → W p l e R s m args below meth c H1 locs1 (cells + mc) (slots + ms) Q (F0 m (pc + 3) ls rest)) : W p l e R s m args below meth c H locs cells slots Q (F0 m pc ls st) := by
  obtain ⟨L, hL, hH⟩ := h.2
  refine va_callv (hr L hL hH) hH.2.2.1 (fun q _ z => p_free hH q z) (p_free hH) (fun u t H1 locs1 ht hvm hp hB hz hk hS => ?_)
  subst ht
  obtain ⟨g1, g2⟩ := p_after h hH hB hS
  exact kk u t.heap locs1 hp g1 g2
theorem p_q0 {post : Option Nat → S → Prop} (h : kHp Xw D cl A s.heap H locs kd0 an0 kd an f) (hr : ∀ L : List Nat, kDom L kd → kH D cl A s.heap H locs (Xw ++ va_pl L f) → va_Run p l e R s m args below meth c H locs cells slots mc ms (F0 m pc ls st) rest (va_Qq post (kBp Xw D cl (va_A (Xw ++ va_pl L f) H.size) kd an fk) (va_A (Xw ++ va_pl L f) H.size) ar) (va_A (Xw ++ va_pl L f) H.size))
    (kk : ∀ (r : Option Nat) (u : S) (H1 : Heap) (locs1 : List Loc), post r u → kLe kd an (fk u).1 (fk u).2.1 → kHp Xw D cl A s.heap H1 locs1 kd0 an0 (fk u).1 (fk u).2.1 (fk u).2.2 → W p l e R s m args below meth c H1 locs1 (cells + mc) (slots + ms) Q (F0 m (pc + 3) ls (va_rf r :: rest))) : W p l e R s m args below meth c H locs cells slots Q (F0 m pc ls st) := by
  obtain ⟨L, hL, hH⟩ := h.2
  refine va_callq (hr L hL hH) hH.2.2.1 (fun q _ z => p_free hH q z) (p_free hH) (fun r u t H1 locs1 ht hvm hp hB hz hk hS => ?_)
  subst ht
  obtain ⟨g1, g2⟩ := p_after h hH hB hS
  exact kk r u t.heap locs1 hp g1 g2
theorem p_objInit (X : kXp G p s m args meth c cc nL own ret D cl tys A) (hlink : Cond.methodLink own index Lib.objectInit ∈ lw_all) (hinst : Cond.instanceMethod Lib.objectInit ∈ lw_all) (hcode : Cond.code Lib.objectInit ⟨#[0xb1]⟩ 1 none ∈ lw_all) (hsize : ls.size = nL) (hdg : decode cc pc = .ok (.invokespecial index, 3)) (hframes : 1 ≤ R.frames) (hlocals : (rest.map fun v => v.category).sum + 12 ≤ R.locals)
    (kk : W p l e R s m args below meth c H locs cells slots Q (F0 m (pc + 3) ls rest)) : W p l e R s m args below meth c H locs cells slots Q (F0 m pc ls (.ref b :: rest)) :=
  W.objInit X.1.1.1 X.1.1.2.1 X.1.1.2.2.2.1 (X.1.1.2.2.2.2 _ hlink) (X.1.1.2.2.2.2 _ hinst) (X.1.1.2.2.2.2 _ hcode) rfl (by rw [X.2.2.2.2]; exact hsize) rfl hdg hframes (by show 2 * 0 + _ + 12 ≤ _; omega) kk
-- references: null or not
theorem p_res {r : Option Nat} {P : State → Prop} {Fr : Value → JFrame} (hr : r = some b) (kk : W p l e R s m args below meth c H locs cells slots P (Fr (.ref b))) : W p l e R s m args below meth c H locs cells slots P (Fr (va_rf r)) := by
  subst hr
  exact kk
end KC3
