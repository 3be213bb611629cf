/-! BASE 25: several rooms side by side, and a shell's calls to one of them -/
def sepL : List (va_W → Prop) → va_W → Prop
  | [], w => w = []
  | P :: Ps, w => ∃ w1 w2 : va_W, w.Perm (w1 ++ w2) ∧ P w1 ∧ sepL Ps w2
theorem sepL_get : ∀ (Ps : List (va_W → Prop)) (i : Nat) (P : va_W → Prop) (w : va_W), sepL Ps w → Ps[i]? = some P → ∃ wr wc : va_W, w.Perm (wr ++ wc) ∧ P wc ∧ ∀ (P' : va_W → Prop) (wc' : va_W), P' wc' → sepL (Ps.set i P') (wr ++ wc') := by
  intro Ps
  induction Ps with
  | nil => intro i P w h hi; simp at hi
  | cons Q Ps ih =>
    intro i P w h hi
    obtain ⟨w1, w2, hp, h1, h2⟩ := h
    cases i with
    | zero =>
      have e : Q = P := by simpa using hi
      subst e
      refine ⟨w2, w1, hp.trans List.perm_append_comm, h1, fun P' wc' h' => ⟨wc', w2, List.perm_append_comm, h', h2⟩⟩
    | succ i =>
      obtain ⟨wr, wc, g1, g2, g3⟩ := ih i P w2 h2 (by simpa using hi)
      refine ⟨w1 ++ wr, wc, ?_, g2, fun P' wc' h' => ⟨w1, wr ++ wc', ?_, h1, g3 P' wc' h'⟩⟩
      · rw [List.append_assoc]; exact hp.trans (List.Perm.append_left w1 g1)
      · rw [List.append_assoc]
/-- one more room at the end -/
theorem sepL_add : ∀ (Ps : List (va_W → Prop)) (w : va_W), sepL Ps w → ∀ (P : va_W → Prop) (wc : va_W), P wc → sepL (Ps ++ [P]) (w ++ wc) := by
  intro Ps
  induction Ps with
  | nil => intro w h P wc hc; cases (show w = [] from h); exact ⟨wc, [], by simp, hc, rfl⟩
  | cons Q Ps ih =>
    rintro w ⟨w1, w2, hp, h1, h2⟩ P wc hc
    refine ⟨w1, w2 ++ wc, ?_, h1, ih w2 h2 P wc hc⟩
    rw [← List.append_assoc]
    exact hp.append_right wc
theorem sepL_perm {Ps : List (va_W → Prop)} {w w' : va_W} (h : sepL Ps w) (hp : w'.Perm w) (hne : Ps ≠ []) : sepL Ps w' := by
  cases Ps with
  | nil => exact absurd rfl hne
  | cons Q Ps => obtain ⟨w1, w2, g, h1, h2⟩ := h; exact ⟨w1, w2, hp.trans g, h1, h2⟩
section KS25
variable {Xw : va_W} {G : kGt} {p : Program} {l : Launch} {e : Env} {R : Room} {s : State} {m : MethodId} {args : Array Value} {below : List Frame} {meth : Method} {c : Code} {H : Heap} {locs : List Loc} {cells slots : Nat} {Q : State → Prop}
variable {cc : ByteArray} {pc nL : Nat} {ls : Array Slot} {rest st : List Value} {own : String} {ret : Option FieldType} {D : va_G} {cl : List vw_C} {tys tyc : List (ClassId × FieldType)} {A : Nat → Prop} {kd0 an0 kd an : Nat → Nat} {f : Nat → va_E} {b : Nat}
variable {y : MethodName} {bytes : ByteArray} {maxL n index : Nat} {rety : Option FieldType} {rm : Room} {C : String} {As : List Value} {mc ms : Nat} {Ps : List (va_W → Prop)} {I : va_W → Prop} {J : Int → va_W → Prop} {Jv : va_W → Prop} {Jx : Nat → va_W → Prop} {ci : Nat} {T : u_T} {N : Nat}
theorem s_ci (X : kXp G p s m args meth c cc nL own ret D cl tys A) (h : kHp Xw D cl A s.heap H locs kd0 an0 kd an f) (hX : sepL Ps Xw) (i : Nat) (hi : Ps[i]? = some I) (hk : kRi l G D cl tyc y (ws_ y bytes maxL rety) rm (.ref b :: As) mc ms I J) (hrc : ∀ w, I w → ∃ fs, (b, Sum.inr (ci, fs)) ∈ w) (hc : cl[ci]? = some (C, T, N)) (ht : ∀ q, q ∈ tyc → q ∈ tys)
    (cw : CallW R s args own C index y bytes maxL rety (ws_ y bytes maxL rety) rm mc ms n) (hn : As.length = n) (hsize : ls.size = nL) (hst : st = As.reverse ++ .ref b :: rest) (hW : (rest.map fun v => v.category).sum ≤ 8) (hdg : decode cc pc = .ok (.invokevirtual index, 3)) (hf : cells + mc ≤ R.cells ∧ slots + ms ≤ R.slots)
    (kk : ∀ (r : Int32) (w' Xw' : va_W) (H1 : Heap) (locs1 : List Loc), J r.toInt w' → (∀ P' : va_W → Prop, P' w' → sepL (Ps.set i P') Xw') → kHp Xw' D cl A s.heap H1 locs1 kd0 an0 kd an f → W p l e R s m args below meth c H1 locs1 (cells + mc) (slots + ms) Q (F0 m (pc + 3) ls (.int r :: rest))) : W p l e R s m args below meth c H locs cells slots Q (F0 m pc ls st) := by
  obtain ⟨wr, wc, g1, g2, g3⟩ := sepL_get Ps i I Xw hX hi
  obtain ⟨fs, hb⟩ := hrc wc g2
  exact q_i (J := J) h g1 (fun L hL hH => q_runV X hH ht hb hc (hk _ _ g2) cw hn hsize hst hW hdg hf) (fun r w' H1 locs1 hJ hH1 => kk r w' (wr ++ w') H1 locs1 hJ (fun P' z => g3 P' w' z) hH1)
theorem s_cl (X : kXp G p s m args meth c cc nL own ret D cl tys A) (h : kHp Xw D cl A s.heap H locs kd0 an0 kd an f) (hX : sepL Ps Xw) (i : Nat) (hi : Ps[i]? = some I) (hk : kRl l G D cl tyc y (ws_ y bytes maxL rety) rm (.ref b :: As) mc ms I J) (hrc : ∀ w, I w → ∃ fs, (b, Sum.inr (ci, fs)) ∈ w) (hc : cl[ci]? = some (C, T, N)) (ht : ∀ q, q ∈ tyc → q ∈ tys)
    (cw : CallW R s args own C index y bytes maxL rety (ws_ y bytes maxL rety) rm mc ms n) (hn : As.length = n) (hsize : ls.size = nL) (hst : st = As.reverse ++ .ref b :: rest) (hW : (rest.map fun v => v.category).sum ≤ 8) (hdg : decode cc pc = .ok (.invokevirtual index, 3)) (hf : cells + mc ≤ R.cells ∧ slots + ms ≤ R.slots)
    (kk : ∀ (r : Int64) (w' Xw' : va_W) (H1 : Heap) (locs1 : List Loc), J r.toInt w' → (∀ P' : va_W → Prop, P' w' → sepL (Ps.set i P') Xw') → kHp Xw' D cl A s.heap H1 locs1 kd0 an0 kd an f → W p l e R s m args below meth c H1 locs1 (cells + mc) (slots + ms) Q (F0 m (pc + 3) ls (.long r :: rest))) : W p l e R s m args below meth c H locs cells slots Q (F0 m pc ls st) := by
  obtain ⟨wr, wc, g1, g2, g3⟩ := sepL_get Ps i I Xw hX hi
  obtain ⟨fs, hb⟩ := hrc wc g2
  exact q_l (J := J) h g1 (fun L hL hH => q_runV X hH ht hb hc (hk _ _ g2) cw hn hsize hst hW hdg hf) (fun r w' H1 locs1 hJ hH1 => kk r w' (wr ++ w') H1 locs1 hJ (fun P' z => g3 P' w' z) hH1)
theorem s_cv (X : kXp G p s m args meth c cc nL own ret D cl tys A) (h : kHp Xw D cl A s.heap H locs kd0 an0 kd an f) (hX : sepL Ps Xw) (i : Nat) (hi : Ps[i]? = some I) (hk : kRv l G D cl tyc y (ws_ y bytes maxL rety) rm (.ref b :: As) mc ms I Jv) (hrc : ∀ w, I w → ∃ fs, (b, Sum.inr (ci, fs)) ∈ w) (hc : cl[ci]? = some (C, T, N)) (ht : ∀ q, q ∈ tyc → q ∈ tys)
    (cw : CallW R s args own C index y bytes maxL rety (ws_ y bytes maxL rety) rm mc ms n) (hn : As.length = n) (hsize : ls.size = nL) (hst : st = As.reverse ++ .ref b :: rest) (hW : (rest.map fun v => v.category).sum ≤ 8) (hdg : decode cc pc = .ok (.invokevirtual index, 3)) (hf : cells + mc ≤ R.cells ∧ slots + ms ≤ R.slots)
    (kk : ∀ (w' Xw' : va_W) (H1 : Heap) (locs1 : List Loc), Jv w' → (∀ P' : va_W → Prop, P' w' → sepL (Ps.set i P') Xw') → kHp Xw' D cl A s.heap H1 locs1 kd0 an0 kd an f → W p l e R s m args below meth c H1 locs1 (cells + mc) (slots + ms) Q (F0 m (pc + 3) ls rest)) : W p l e R s m args below meth c H locs cells slots Q (F0 m pc ls st) := by
  obtain ⟨wr, wc, g1, g2, g3⟩ := sepL_get Ps i I Xw hX hi
  obtain ⟨fs, hb⟩ := hrc wc g2
  exact q_v (J := Jv) h g1 (fun L hL hH => q_runV X hH ht hb hc (hk _ _ g2) cw hn hsize hst hW hdg hf) (fun w' H1 locs1 hJ hH1 => kk w' (wr ++ w') H1 locs1 hJ (fun P' z => g3 P' w' z) hH1)
theorem s_cx (X : kXp G p s m args meth c cc nL own ret D cl tys A) (h : kHp Xw D cl A s.heap H locs kd0 an0 kd an f) (hX : sepL Ps Xw) (i : Nat) (hi : Ps[i]? = some I) (hk : kRx l G D cl tyc y (ws_ y bytes maxL rety) rm (.ref b :: As) mc ms I J Jx) (hrc : ∀ w, I w → ∃ fs, (b, Sum.inr (ci, fs)) ∈ w) (hc : cl[ci]? = some (C, T, N)) (ht : ∀ q, q ∈ tyc → q ∈ tys)
    (cw : CallW R s args own C index y bytes maxL rety (ws_ y bytes maxL rety) rm mc ms n) (hn : As.length = n) (hsize : ls.size = nL) (hst : st = As.reverse ++ .ref b :: rest) (hW : (rest.map fun v => v.category).sum ≤ 8) (hdg : decode cc pc = .ok (.invokevirtual index, 3)) (hf : cells + mc ≤ R.cells ∧ slots + ms ≤ R.slots)
    (kk : ∀ (r : Int32) (w' Xw' : va_W) (H1 : Heap) (locs1 : List Loc), J r.toInt w' → (∀ P' : va_W → Prop, P' w' → sepL (Ps.set i P') Xw') → kHp Xw' D cl A s.heap H1 locs1 kd0 an0 kd an f → W p l e R s m args below meth c H1 locs1 (cells + mc) (slots + ms) Q (F0 m (pc + 3) ls (.int r :: rest)))
    (kt : ∀ (k q : Nat) (w' Xw' : va_W) (H1 : Heap) (locs1 : List Loc), Jx k w' → (∀ P' : va_W → Prop, P' w' → sepL (Ps.set i P') Xw') → kHp Xw' D cl A s.heap H1 locs1 kd0 an0 kd an f → kIsE k q s.vm H1 → kWx p l e R s m args below meth c H1 locs1 (cells + mc) (slots + ms) Q (F0 m pc ls rest) q) : W p l e R s m args below meth c H locs cells slots Q (F0 m pc ls st) := by
  obtain ⟨wr, wc, g1, g2, g3⟩ := sepL_get Ps i I Xw hX hi
  obtain ⟨fs, hb⟩ := hrc wc g2
  exact q_x (J := J) (Jx := Jx) h g1 (fun L hL hH => q_xV X hH ht hb hc (hk _ _ g2) cw hn hsize hst hW hdg hf) (fun r w' H1 locs1 hJ hH1 => kk r w' (wr ++ w') H1 locs1 hJ (fun P' z => g3 P' w' z) hH1)
    (fun k q w' H1 locs1 hJ hH1 hE => kt k q w' (wr ++ w') H1 locs1 hJ (fun P' z => g3 P' w' z) hH1 hE)
end KS25
