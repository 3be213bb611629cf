/-! BASE 23: a shell over rooms: its own cells are a pool; behind a call the rooms' blocks are told by a predicate E of the state -/
def kBs {S : Type} (E : S → va_W → Prop) (D : va_G) (cl : List vw_C) (A : Nat → Prop) (kd0 an0 : Nat → Nat) (fk : S → (Nat → Nat) × (Nat → Nat) × (Nat → va_E)) (u : S) (t : State) : Prop := ∃ Xw : va_W, E u Xw ∧ kBp Xw D cl A kd0 an0 fk u t
section KS
variable {Xw : va_W} {G : kGt} {p : Program} {l : Launch} {e : Env} {R : Room} {s : State} {m : MethodId} {args : Array Value} {below : List Frame} {meth : Method} {c : Code} {H : Heap} {locs : List Loc} {cells slots : Nat} {Q : State → Prop}
variable {cc : ByteArray} {pc nL : Nat} {ls : Array Slot} {rest st : List Value} {own : String} {ret : Option FieldType} {D : va_G} {cl : List vw_C} {tys : List (ClassId × FieldType)} {A : Nat → Prop} {kd0 an0 kd an : Nat → Nat} {f : Nat → va_E} {L : List Nat}
variable {mc ms : Nat} {S : Type} {fk : S → (Nat → Nat) × (Nat → Nat) × (Nat → va_E)} {E : S → va_W → Prop} {ar : Array Value}
theorem s_B (h : kHp Xw D cl A s.heap H locs kd0 an0 kd an f) {u : S} (hE : E u Xw) (hfk : fk u = (kd, an, f)) {t : State} (ht : t.heap = H) : kBs E D cl A kd0 an0 fk u t := ⟨Xw, hE, p_B h hfk ht⟩
theorem s_iret {post : Int32 → S → Prop} {v : Int32} {ty : FieldType} (X : kXp G p s m args meth c cc nL own (some ty) D cl tys A) (h : kHp Xw D cl A s.heap H locs kd0 an0 kd an f) (hc1 : cells ≤ mc) (hc2 : slots ≤ ms) (u : S) (hE : E u Xw) (hp : post v u) (hfk : fk u = (kd, an, f)) (hn : narrow ty (.int v) = .int v) (hdg : decode cc pc = .ok (.ireturn, 1)) : W p l e R s m args below meth c H locs cells slots (MQ below (va_Qi post (kBs E D cl A kd0 an0 fk) A) args s mc ms A) (F0 m pc ls [.int v]) :=
  W.widen hc1 hc2 (W.zret (v := v) X.1.1.1 X.1.1.2.1 X.1.2.1 hn (fun t ht hW => ⟨⟨v, u, rfl, hp, s_B h hE hfk ht⟩, (p_S h).F ht⟩) (p_S h).2.2 hdg X.1.2.2.1)
theorem s_lret {post : Int64 → S → Prop} {v : Int64} (X : kXp G p s m args meth c cc nL own (some .long) D cl tys A) (h : kHp Xw D cl A s.heap H locs kd0 an0 kd an f) (hc1 : cells ≤ mc) (hc2 : slots ≤ ms) (u : S) (hE : E u Xw) (hp : post v u) (hfk : fk u = (kd, an, f)) (hdg : decode cc pc = .ok (.lreturn, 1)) : W p l e R s m args below meth c H locs cells slots (MQ below (va_Ql post (kBs E D cl A kd0 an0 fk) A) args s mc ms A) (F0 m pc ls [.long v]) :=
  W.widen hc1 hc2 (W.lret (v := v) X.1.1.1 X.1.1.2.1 X.1.2.1 (fun t ht hW => ⟨⟨v, u, rfl, hp, s_B h hE hfk ht⟩, (p_S h).F ht⟩) (p_S h).2.2 hdg X.1.2.2.1)
theorem s_vret {post : S → Prop} (X : kXp G p s m args meth c cc nL own none D cl tys A) (h : kHp Xw D cl A s.heap H locs kd0 an0 kd an f) (hc1 : cells ≤ mc) (hc2 : slots ≤ ms) (u : S) (hE : E u Xw) (hp : post u) (hfk : fk u = (kd, an, f)) (hdg : decode cc pc = .ok (.return_, 1)) : W p l e R s m args below meth c H locs cells slots (MQ below (va_Qv post (kBs E D cl A kd0 an0 fk) A) args s mc ms A) (F0 m pc ls []) :=
  W.widen hc1 hc2 (W.vret X.1.1.1 X.1.1.2.1 X.1.2.1 (fun t ht hW => ⟨⟨u, rfl, hp, s_B h hE hfk ht⟩, (p_S h).F ht⟩) (p_S h).2.2 hdg X.1.2.2.1)
theorem s_after (h : kHp Xw D cl A s.heap H locs kd0 an0 kd an f) (hH : kH D cl A s.heap H locs (Xw ++ va_pl L f)) {u : S} {t : State} (hB : kBs E D cl (va_A (Xw ++ va_pl L f) H.size) kd an fk u t) {locs1 : List Loc} (hS : va_S A s.heap t.heap locs1) : ∃ Xw' : va_W, E u Xw' ∧ kLe kd an (fk u).1 (fk u).2.1 ∧ kHp Xw' D cl A s.heap t.heap locs1 kd0 an0 (fk u).1 (fk u).2.1 (fk u).2.2 := by
  obtain ⟨Xw', hE, hle, L', hL', hP, hD⟩ := hB
  exact ⟨Xw', hE, hle, h.1.tr hle, L', hL', hP, hD.weaken (fun _ _ _ z => p_free hH _ z), hS, hH.2.2.2⟩
theorem s_i0 {post : Int32 → S → Prop} (h : kHp Xw D cl A s.heap H locs kd0 an0 kd an f) (hr : ∀ L : List Nat, kDom L kd → kH D cl A s.heap H locs (Xw ++ va_pl L f) → va_Run p l e R s m args below meth c H locs cells slots mc ms (F0 m pc ls st) rest (va_Qi post (kBs E D cl (va_A (Xw ++ va_pl L f) H.size) kd an fk) (va_A (Xw ++ va_pl L f) H.size) ar) (va_A (Xw ++ va_pl L f) H.size))
    (kk : ∀ (r : Int32) (u : S) (Xw' : va_W) (H1 : Heap) (locs1 : List Loc), post r u → E u Xw' → kLe kd an (fk u).1 (fk u).2.1 → kHp Xw' D cl A s.heap H1 locs1 kd0 an0 (fk u).1 (fk u).2.1 (fk u).2.2 → W p l e R s m args below meth c H1 locs1 (cells + mc) (slots + ms) Q (F0 m (pc + 3) ls (.int r :: rest))) : W p l e R s m args below meth c H locs cells slots Q (F0 m pc ls st) := by
  obtain ⟨L, hL, hH⟩ := h.2
  refine va_calli (hr L hL hH) hH.2.2.1 (fun q _ z => p_free hH q z) (p_free hH) (fun r u t H1 locs1 ht hvm hp hB hz hk hS => ?_)
  subst ht
  obtain ⟨Xw', hE, g1, g2⟩ := s_after h hH hB hS
  exact kk r u Xw' t.heap locs1 hp hE g1 g2
theorem s_l0 {post : Int64 → S → Prop} (h : kHp Xw D cl A s.heap H locs kd0 an0 kd an f) (hr : ∀ L : List Nat, kDom L kd → kH D cl A s.heap H locs (Xw ++ va_pl L f) → va_Run p l e R s m args below meth c H locs cells slots mc ms (F0 m pc ls st) rest (va_Ql post (kBs E D cl (va_A (Xw ++ va_pl L f) H.size) kd an fk) (va_A (Xw ++ va_pl L f) H.size) ar) (va_A (Xw ++ va_pl L f) H.size))
    (kk : ∀ (r : Int64) (u : S) (Xw' : va_W) (H1 : Heap) (locs1 : List Loc), post r u → E u Xw' → kLe kd an (fk u).1 (fk u).2.1 → kHp Xw' D cl A s.heap H1 locs1 kd0 an0 (fk u).1 (fk u).2.1 (fk u).2.2 → W p l e R s m args below meth c H1 locs1 (cells + mc) (slots + ms) Q (F0 m (pc + 3) ls (.long r :: rest))) : W p l e R s m args below meth c H locs cells slots Q (F0 m pc ls st) := by
  obtain ⟨L, hL, hH⟩ := h.2
  refine va_calll (hr L hL hH) hH.2.2.1 (fun q _ z => p_free hH q z) (p_free hH) (fun r u t H1 locs1 ht hvm hp hB hz hk hS => ?_)
  subst ht
  obtain ⟨Xw', hE, g1, g2⟩ := s_after h hH hB hS
  exact kk r u Xw' t.heap locs1 hp hE g1 g2
theorem s_v0 {post : S → Prop} (h : kHp Xw D cl A s.heap H locs kd0 an0 kd an f) (hr : ∀ L : List Nat, kDom L kd → kH D cl A s.heap H locs (Xw ++ va_pl L f) → va_Run p l e R s m args below meth c H locs cells slots mc ms (F0 m pc ls st) rest (va_Qv post (kBs E D cl (va_A (Xw ++ va_pl L f) H.size) kd an fk) (va_A (Xw ++ va_pl L f) H.size) ar) (va_A (Xw ++ va_pl L f) H.size))
    (kk : ∀ (u : S) (Xw' : va_W) (H1 : Heap) (locs1 : List Loc), post u → E u Xw' → kLe kd an (fk u).1 (fk u).2.1 → kHp Xw' D cl A s.heap H1 locs1 kd0 an0 (fk u).1 (fk u).2.1 (fk u).2.2 → W p l e R s m args below meth c H1 locs1 (cells + mc) (slots + ms) Q (F0 m (pc + 3) ls rest)) : W p l e R s m args below meth c H locs cells slots Q (F0 m pc ls st) := by
  obtain ⟨L, hL, hH⟩ := h.2
  refine va_callv (hr L hL hH) hH.2.2.1 (fun q _ z => p_free hH q z) (p_free hH) (fun u t H1 locs1 ht hvm hp hB hz hk hS => ?_)
  subst ht
  obtain ⟨Xw', hE, g1, g2⟩ := s_after h hH hB hS
  exact kk u Xw' t.heap locs1 hp hE g1 g2
variable {α : Type} {mkv : α → Option Value} {post : α → S → Prop} {px : Nat → S → Prop}
/-- a call of the shell's own that may throw -/
theorem s_x0 (h : kHp Xw D cl A s.heap H locs kd0 an0 kd an f) (hr : ∀ L : List Nat, kDom L kd → kH D cl A s.heap H locs (Xw ++ va_pl L f) → kRn p l e R s m args below meth c H locs cells slots mc ms (F0 m pc ls st) rest (kXg mkv post px (kBs E D cl (va_A (Xw ++ va_pl L f) H.size) kd an fk) (va_A (Xw ++ va_pl L f) H.size) ar) (va_A (Xw ++ va_pl L f) H.size))
    (kk : ∀ (r : α) (u : S) (Xw' : va_W) (H1 : Heap) (locs1 : List Loc), post r u → E u Xw' → kLe kd an (fk u).1 (fk u).2.1 → kHp Xw' D cl A s.heap H1 locs1 kd0 an0 (fk u).1 (fk u).2.1 (fk u).2.2 → W p l e R s m args below meth c H1 locs1 (cells + mc) (slots + ms) Q (F0 m (pc + 3) ls ((mkv r).toList ++ rest)))
    (kt : ∀ (k q : Nat) (u : S) (Xw' : va_W) (H1 : Heap) (locs1 : List Loc), px k u → E u Xw' → kLe kd an (fk u).1 (fk u).2.1 → kHp Xw' D cl A s.heap H1 locs1 kd0 an0 (fk u).1 (fk u).2.1 (fk u).2.2 → kIsE k q s.vm H1 → kWx p l e R s m args below meth c H1 locs1 (cells + mc) (slots + ms) Q (F0 m pc ls rest) q) : W p l e R s m args below meth c H locs cells slots Q (F0 m pc ls st) := by
  obtain ⟨L, hL, hH⟩ := h.2
  have hA : ∀ q, va_A (Xw ++ va_pl L f) H.size q → A q := p_free hH
  intro T hT X
  obtain ⟨o, st₀, t, T', L1, h0, X', hL1, e1, e2, ⟨hq, hz, hk⟩, hst⟩ := hr L hL hH T hT X
  rw [h0] at hz hk
  have hS : va_S A s.heap t.heap (locs ++ L1) := ⟨Nat.le_trans hH.2.2.1.1 hz, fun q h1 h2 => by rw [hk q (Nat.lt_of_lt_of_le h1 hH.2.2.1.1) (fun z => h2 (hA q z))]; exact hH.2.2.1.2.1 q h1 h2, fun q hq => by
    rcases List.mem_append.mp hq with h | h
    · exact hH.2.2.1.2.2 q h
    · exact hA _ (hL1 q h)⟩
  rcases hq with ⟨r, u, rfl, hp, hB⟩ | ⟨k, q, u, rfl, hE, hp, hB⟩
  · obtain ⟨Xw', hE', g1, g2⟩ := s_after h hH hB hS
    obtain ⟨t2, a1, b1⟩ := kk r u Xw' t.heap (locs ++ L1) hp hE' g1 g2 T' e1 X'
    exact ⟨t2, hst t2 a1, b1⟩
  · obtain ⟨Xw', hE', g1, g2⟩ := s_after h hH hB hS
    have hal : s.vm.Alike t.vm := by rw [← e2]; exact X'.warmed.alike
    obtain ⟨ce, c1, c2, c3⟩ := hE
    obtain ⟨t2, a1, b1⟩ := kt k q u Xw' t.heap (locs ++ L1) hp hE' g1 g2 ⟨ce, c1, c2, by rw [hal.findClass] at c3; exact c3⟩ T' e1 X'
    exact ⟨t2, hst t2 a1, b1⟩
/-- nothing here catches it: the method throws -/
theorem s_xout (X : kXp G p s m args meth c cc nL own ret D cl tys A) (h : kHp Xw D cl A s.heap H locs kd0 an0 kd an f) (hc1 : cells ≤ mc) (hc2 : slots ≤ ms) {k q : Nat} (hK : kIsE k q s.vm H) (u : S) (hE : E u Xw) (hp : px k u) (hfk : fk u = (kd, an, f)) (hout : ∀ x ∈ c.exceptionTable.toList, covers x pc = false) :
    kWx p l e R s m args below meth c H locs cells slots (kMQ below (kXg mkv post px (kBs E D cl A kd0 an0 fk) A) args s mc ms A) (F0 m pc ls rest) q := by
  intro T hT XS
  have XS := stand_widen XS hc1 hc2
  obtain ⟨h1, h2, h3, h4, h5⟩ := XS.leaveThrown q (g := F0 m pc ls rest) rfl rfl rfl hout X.1.2.2.1
  refine ⟨_, h1, .threw q, h2, h3, ⟨Or.inr ⟨k, q, u, rfl, ?_, hp, s_B h hE hfk (t := T.setFrames (.throwing q :: below)) hT⟩, (p_S h).F (t := T.setFrames (.throwing q :: below)) hT⟩, locs, ⟨h4, h5⟩, (p_S h).2.2⟩
  obtain ⟨ce, c1, c2, c3⟩ := hK
  exact ⟨ce, by show T.heap[q]? = _; rw [hT]; exact c1, c2, by rw [h4.alike.findClass]; exact c3⟩
end KS
