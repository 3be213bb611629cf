/-! BASE 18: chars as answers; texts behind wide indices -/
set_option maxRecDepth 100000
theorem k_cn {v : Int32} {z : Int} (e : v.toInt = z) (h : 0 ≤ z ∧ z < 65536) : narrow .char (.int v) = .int v := by
  have e1 : v.toUInt32.toUInt16.toUInt32 = v.toUInt32 % 65536 := by
    apply UInt32.toNat_inj.mp
    simp
  have e2 := z_i2c (z_m e)
  have e3 : (v.toUInt32 % 65536).toInt32 = v := Int32.toInt_inj.mp (by rw [e2, e]; omega)
  show Value.int v.toUInt32.toUInt16.toUInt32.toInt32 = _
  rw [e1, e3]
section KX18
variable {p : Program} {l : Launch} {e : Env} {R : Room} {s : State} {m : MethodId} {args : Array Value} {below : List Frame} {meth : Method} {c : Code} {T : State} {H : Heap} {locs : List Loc} {cells slots : Nat} {Q : State → Prop} {cc : ByteArray} {pc : Nat} {ls : Array Slot} {rest : List Value}
theorem x_ldcwS (X : Stand p l e R s m args below meth c T locs cells slots) (hexec : p.tables.exec = Jvm.exec) {own text : String} {index : Nat} {a : Addr} (hown : s.vm.findClass own = some m.cls)
    (hconst : (Cond.stringRef own index text).before #[] s = true) (hev : (Term.string own index).eval #[] s none [] s = some (.ref a)) {g : JFrame} (hg : g.method = m) (hdg : decode c.code g.pc = .ok (.ldc_w index, 3)) :
    ∀ target, Steps p.tables e below (T.setTop { g with pc := g.pc + 3, stack := .ref a :: g.stack }) target → Steps p.tables e below (T.setTop g) target := by
  obtain ⟨k, cf, i, a', hk, hcf, hcp, -, hr, hev'⟩ := Cond.stringRef_spec hown hconst
  cases hev.symm.trans hev'
  obtain ⟨k', hk', he⟩ := X.warmed.alike.2.2 _ _ hk
  have hr' : k'.resolved[index]? = some (some (.string a)) := by
    rcases X.warmed.entry hk hk' index with h | ⟨h, -⟩
    · rw [h]; exact hr
    · rw [hr] at h; cases h
  intro target hrest
  subst hg
  jvm_step X.here [hexec, hdg, ldc_w.wp_string (e := e) (s := T) (f := g) X.here.top hk' (by rw [he]; exact hcf) hcp hr']
  exact hrest
theorem p_ldcSw (hexec : p.tables.exec = Jvm.exec) (hb : c.code = cc) {own tx : String} {index q : Nat} (hown : s.vm.findClass own = some m.cls) (hZ : vk_R own index tx q s) (hdg : decode cc pc = .ok (.ldc_w index, 3))
    (k : W p l e R s m args below meth c H locs cells slots Q (F0 m (pc + 3) ls (.ref q :: rest))) : W p l e R s m args below meth c H locs cells slots Q (F0 m pc ls rest) := by
  intro T hT X
  obtain ⟨t, a1, b1⟩ := k T hT X
  exact ⟨t, x_ldcwS X hexec hown (text := tx) (a := q) hZ.1 hZ.2 (g := F0 m pc ls rest) rfl (by rw [hb]; exact hdg) t a1, b1⟩
end KX18
theorem k_lk {ps : List (Int × Int)} {d x : Int} (h : ∀ q ∈ ps, ¬ x = q.1) : Op.lookupswitch.offset ps d x = d := by
  induction ps with
  | nil => rfl
  | cons q qs ih =>
    have h1 := h q List.mem_cons_self
    have h2 := ih fun z hz => h z (List.mem_cons_of_mem _ hz)
    simp only [Op.lookupswitch.offset] at h2 ⊢
    first
      | (rw [if_neg (fun e => h1 e.symm)]; exact h2)
      | (rw [if_neg h1]; exact h2)
      | (simp only [List.find?_cons]; rw [show (q.1 == x) = false from by simpa using fun e => h1 e.symm]; exact h2)
      | simp_all
