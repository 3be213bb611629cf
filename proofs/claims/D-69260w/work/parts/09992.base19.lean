/-! BASE 19: System.arraycopy out of a row that lies outside -/
set_option maxRecDepth 100000
theorem z_cpyT {f : Nat → Nat → Int32} {g : Nat → Int32} {b : Nat} {sp dp n : Int32} {x y z : Int} (e1 : sp.toInt = x) (e2 : dp.toInt = y) (e3 : n.toInt = z) (h1 : 0 ≤ x) (h2 : 0 ≤ y) (h3 : 0 ≤ z) : zFF (va_up f b (va_cpy g (f b) sp.toNatClampNeg dp.toNatClampNeg n.toNatClampNeg)) = va_up (zFF f) b (zcpy (zF g) (zFF f b) x y z) := z_upA (g := zF) (z_cpyF0 e1 e2 e3 h1 h2 h3)
theorem k_ncn {z : Int32} (h : ¬ z < 0) : z.toInt = (z.toNatClampNeg : Int) := by
  have h0 := Int32.le_iff_toInt_le.mp (Int32.not_lt.mp h)
  have : (0 : Int32).toInt = 0 := rfl
  show z.toInt = ((z.toInt.toNat : Nat) : Int)
  omega
section KX19
variable {Xw : va_W} {G : kGt} {p : Program} {l : Launch} {e : Env} {R : Room} {s : State} {m : MethodId} {args : Array Value} {below : List Frame} {meth : Method} {c : Code} {H : Heap} {locs : List Loc} {cells slots : Nat} {Q : State → Prop}
variable {cc : ByteArray} {pc nL : Nat} {ls : Array Slot} {rest : List Value} {own : String} {ret : Option FieldType} {D : va_G} {cl : List vw_C} {tys : List (ClassId × FieldType)} {A : Nat → Prop} {kd0 an0 kd an : Nat → Nat} {f f1 : Nat → va_E} {a K : Nat}
theorem p_copyt (X : kXp G p s m args meth c cc nL own ret D cl tys A) (h : kHp Xw D cl A s.heap H locs kd0 an0 kd an f) {b0 n0 : Nat} {g0 g1 : Nat → Int32} (hO : va_T .int b0 n0 (fun j => .int (g0 j)) A s s.heap) (hk : kd a = K) (hK : K ≠ 0) {index n1 : Nat} {c0 : ClassId} (he : f a = .inl (c0, n1, .inl g1)) (t0 : Nat) (ht : tys[t0]? = some (c0, .int))
    (hl : Cond.methodLink own index arraycopyName ∈ lw_all) (hnat : Cond.native arraycopyName ∈ lw_all) (hst : Cond.static arraycopyName ∈ lw_all) (hini : Cond.initialized "java/lang/System" ∈ lw_all) (hsize : ls.size = nL)
    {sp dp n : Int32} (h1 : ¬ sp < 0) (h2 : ¬ dp < 0) (h3 : ¬ n < 0) (h4 : sp.toNatClampNeg + n.toNatClampNeg ≤ n0) (h5 : dp.toNatClampNeg + n.toNatClampNeg ≤ n1)
    (hframes : 1 ≤ R.frames) (hlocals : (rest.map fun v => v.category).sum + (nativeFrameWords "java/lang/System" "arraycopy" 5 + 11) ≤ R.locals) (hdg : decode cc pc = .ok (.invokestatic index, 3)) (hf1 : va_up f a (.inl (c0, n1, .inl (va_cpy g0 g1 sp.toNatClampNeg dp.toNatClampNeg n.toNatClampNeg))) = f1)
    (kk : ∀ (H1 : Heap) (locs1 : List Loc), kHp Xw D cl A s.heap H1 locs1 kd0 an0 kd an f1 → W p l e R s m args below meth c H1 locs1 cells slots Q (F0 m (pc + 3) ls rest)) : W p l e R s m args below meth c H locs cells slots Q (F0 m pc ls (.int n :: .int dp :: .ref a :: .int sp :: .ref b0 :: rest)) := by
  have hSS := p_S h
  obtain ⟨hle, L, hL, hH⟩ := h
  have ha := (hL a).mpr (by rw [hk]; exact hK)
  obtain ⟨q, hq⟩ := va_pl_get (X := Xw) (f := f) ha
  have hq' : (Xw ++ va_pl L f)[q]? = some (a, .inl (c0, n1, .inl g1)) := by rw [← he]; exact hq
  intro T hT XS
  obtain ⟨scr, o1, ⟨o2, kA, hkA, cmA, hkkA⟩, o3, o4, -, o5, o6⟩ := hO
  have hsrc : T.heap[b0]? = some scr := by rw [hT, hSS.2.1 b0 (Array.getElem?_eq_some_iff.mp o1).1 o6]; exact o1
  have hdst : T.heap[a]? = some (vp_cell c0 (n1, .inl g1)) := by rw [hT]; exact hH.1 q _ hq'
  obtain ⟨-, kB, hkB, cmB, hkkB⟩ := (X.1.2.2.2.2 t0 _ ht).1 n1 (fun j => .int (g1 j))
  have hel : ∀ i : Nat, i < n.toNatClampNeg → scr.slots.getD (sp.toNatClampNeg + i) .null = .int (g0 (sp.toNatClampNeg + i)) := fun i hi => by
    rw [Array.getD_eq_getD_getElem?, o5 _ (by omega)]; rfl
  obtain ⟨vm', X', step⟩ := XS.arraycopy X.1.1.1 X.1.1.2.2.2.1 (X.1.1.2.2.2.2 _ hl) (X.1.1.2.2.2.2 _ hnat) (X.1.1.2.2.2.2 _ hst) (X.1.1.2.2.2.2 _ hini) (src := b0) (dst := a) (cs := scr) (cd := vp_cell c0 (n1, .inl g1)) (srcPos := sp) (destPos := dp) (n := n) hsrc hdst o2 (fun _ h => by cases h) o3 (fun h => by cases h) hkA hkB hkkA hkkB (by simp [refKind]) h1 h2 h3
    (by rw [k_ncn h1, k_ncn h3]; omega) (by rw [k_ncn h2, k_ncn h3]; show ¬ _ > ((arrV c0 n1 (fun j => .int (g1 j))).slots.size : Int); rw [arrV_size]; omega)
    (fun _ _ i hi => ⟨by rw [hel i hi]; rfl, by rw [hel i hi]; exact trivial⟩) (g := F0 m pc ls (.int n :: .int dp :: .ref a :: .int sp :: .ref b0 :: rest)) rfl (by rw [X.2.2.2.2, ← hsize]) (rest := rest) rfl (by rw [X.1.1.2.1]; exact hdg) hframes (by show 2 * 0 + _ + _ ≤ _; omega)
  rw [show copied scr (vp_cell c0 (n1, .inl g1)) sp dp n = vp_cell c0 (n1, .inl (va_cpy g0 g1 sp.toNatClampNeg dp.toNatClampNeg n.toNatClampNeg)) from va_copiedX (fun z => .int z) scr c0 g0 g1 o5 h4] at X' step
  have hlt : a < H.size := by rw [← hT]; exact (Array.getElem?_eq_some_iff.mp hdst).1
  have ho : ∀ (v : Cell) (z : Nat), z ≠ a → (H.setIfInBounds a v)[z]? = H[z]? := fun v z hz => by simp [Array.getElem?_setIfInBounds, Ne.symm hz]
  obtain ⟨t, a1, b1⟩ := kk (H.setIfInBounds a (vp_cell c0 (n1, .inl (va_cpy g0 g1 sp.toNatClampNeg dp.toNatClampNeg n.toNatClampNeg)))) _ (p_back hle hL ha hH hq hf1 (hH.1.set hH.2.1 hq' (show (H.setIfInBounds a _)[a]? = some _ by simp [Array.getElem?_setIfInBounds, hlt]) (ho _)) (hH.2.1.set hq') ⟨by simp; exact hSS.1, fun z g1 g2 => by
      rw [ho _ z (fun e => g2 (by rw [e]; exact hH.2.1.2 q _ hq'))]; exact hSS.2.1 z g1 g2, fun z hz => by
      rcases List.mem_append.mp hz with h | h
      · exact hSS.2.2 z h
      · obtain ⟨w, -, hw⟩ := List.mem_map.mp h
        rw [← hw]; exact hH.2.1.2 q _ hq'⟩) _ (by rw [← hT]; rfl) X'
  exact ⟨t, step t a1, b1⟩
theorem p_Rald (X : kXp G p s m args meth c cc nL own ret D cl tys A) {H0 : Heap} (h : kHp Xw D cl A H0 H locs kd0 an0 kd an f) (hk : kd a = K) (hK : K ≠ 0) {cA : ClassId} {n : Nat} {g : Nat → Option Nat} (he : f a = .inl (cA, n, .inr (.inr (.inr (.inr g))))) (t0 : Nat) {E : FieldType} (ht : tys[t0]? = some (cA, .array E)) {i : Int32} (hin : vp_in i n) (hdg : decode cc pc = .ok (.aaload, 1))
    (kk : W p l e R s m args below meth c H locs cells slots Q (F0 m (pc + 1) ls (va_rf (g i.toNatClampNeg) :: rest))) : W p l e R s m args below meth c H locs cells slots Q (F0 m pc ls (.int i :: .ref a :: rest)) := by
  obtain ⟨L, q, -, -, hH, hq⟩ := p_at h hk hK
  have hq' : (Xw ++ va_pl L f)[q]? = some (a, .inl (cA, n, .inr (.inr (.inr (.inr g))))) := by rw [← he]; exact hq
  have hlt : i.toNatClampNeg < n := Nat.not_le.mp fun q => hin (Or.inr q)
  exact W.aald (v := va_rf (g i.toNatClampNeg)) (ty := .array E) X.1.1.1 X.1.1.2.1 (hH.1 q _ hq') ((X.1.2.2.2.2 t0 _ ht).1 n (fun j => va_rf (g j))) rfl (fun q => by cases q) (by show ¬ (i < 0 ∨ (arrV _ _ _).slots.size ≤ _); rw [arrV_size]; exact hin) (by show (arrV _ _ _).slots[_]? = _; rw [arrV_read _ _ hlt]) rfl rfl hdg kk
end KX19
