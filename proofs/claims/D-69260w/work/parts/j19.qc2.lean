/-! QlRewrite, plain: namings by an array; the least row of some namings -/
noncomputable def qRn (ot nd : Int → Int) (v : Int) : Int := nd (fstI (fun k => ot k = v) 8)
def qPm (oc : Int) (nd : Int → Int) : Prop := (∀ i, 0 ≤ i → i < oc → 2 ≤ nd i ∧ nd i < 2 + oc) ∧ ∀ i j, 0 ≤ i → i < j → j < oc → ¬ nd i = nd j
def qLq (a b : Int) (l : List qA) (ot : Int → Int) (V : (Int → Int) → Prop) (c : Int) (le : List Int) : Prop := (c = 0 ∧ ∀ nd, ¬ V nd) ∨ (c = 1 ∧ (∃ nd, V nd ∧ qRow a b l (qRn ot nd) le) ∧ ∀ nd, V nd → ∀ d, qRow a b l (qRn ot nd) d → qLx le d)
section
variable {a b oc c k : Int} {l : List qA} {ot nd nd' : Int → Int} {V W : (Int → Int) → Prop} {le le' co d : List Int}
theorem qLq.cg (h : qLq a b l ot V c le) (e : ∀ m, V m ↔ W m) : qLq a b l ot W c le := by
  rcases h with ⟨h1, h2⟩ | ⟨h1, ⟨m, h2, h3⟩, h4⟩
  · exact Or.inl ⟨h1, fun m w => h2 m ((e m).2 w)⟩
  · exact Or.inr ⟨h1, ⟨m, (e m).1 h2, h3⟩, fun m w => h4 m ((e m).2 w)⟩
theorem qRn_at (hO : qOo ot oc (qOc a b l)) (hoc : oc ≤ 8) {j : Int} (j0 : 0 ≤ j) (j1 : j < oc) : qRn ot nd (ot j) = nd j := by
  unfold qRn
  rw [hO.ix hoc j0 j1]
theorem qRow_cg (hO : qOo ot oc (qOc a b l)) (hoc : oc ≤ 8) (h : ∀ i, 0 ≤ i → i < oc → nd i = nd' i) (H : qRow a b l (qRn ot nd) d) : qRow a b l (qRn ot nd') d := by
  have e : l.map (qCd a b (qRn ot nd)) = l.map (qCd a b (qRn ot nd')) := qCd_c (fun v hv => by
    obtain ⟨j, hj, rfl⟩ := (hO.2.1 v).2 hv
    rw [qRn_at hO hoc hj.1 hj.2, qRn_at hO hoc hj.1 hj.2]; exact h j hj.1 hj.2)
  unfold qRow at H ⊢
  rw [← e]; exact H
theorem qLq.add (L : qLq a b l ot V c le) (hO : qOo ot oc (qOc a b l)) (hoc : oc ≤ 8) (row : qRow a b l (qRn ot nd) co) (h : (le' = co ∧ (c = 0 ∨ qLx co le)) ∨ (le' = le ∧ c = 1 ∧ qLx le co)) : qLq a b l ot (fun m => V m ∨ ∀ i, 0 ≤ i → i < oc → m i = nd i) 1 le' := by
  have same : ∀ m e, (∀ i, 0 ≤ i → i < oc → m i = nd i) → qRow a b l (qRn ot m) e → e = co := fun m e hm he => qRow_u (qRow_cg hO hoc hm he) row
  right
  refine ⟨rfl, ?_⟩
  rcases h with ⟨rfl, h2⟩ | ⟨rfl, h2, h3⟩
  · refine ⟨⟨nd, Or.inr (fun _ _ _ => rfl), row⟩, fun m hm e he => ?_⟩
    rcases hm with hm | hm
    · rcases L with ⟨_, no⟩ | ⟨c1, _, ls⟩
      · exact absurd hm (no m)
      · exact qLx_t (h2.resolve_left (by omega)) (ls m hm e he)
    · rw [same m e hm he]; exact qLx_r _
  · rcases L with ⟨c0, _⟩ | ⟨_, ⟨m0, hm0, r0⟩, ls⟩
    · omega
    · refine ⟨⟨m0, Or.inl hm0, r0⟩, fun m hm e he => ?_⟩
      rcases hm with hm | hm
      · exact ls m hm e he
      · rw [same m e hm he]; exact h3
/-- all namings seen: it is the least row -/
theorem qLq.ls (L : qLq a b l ot (qPm oc) c le) (hO : qOo ot oc (qOc a b l)) (hoc : oc ≤ 8) : qLs a b l le := by
  have h0 := hO.1
  have len : (((aF ot 0 oc.toNat).length : Nat) : Int) = oc := by rw [aF_len]; omega
  have nm : ∀ m, qPm oc m → qNm a b l oc (qRn ot m) := fun m hm => by
    refine ⟨fun v hv => ?_, fun v w hv hw e => ?_⟩
    · obtain ⟨j, hj, rfl⟩ := (hO.2.1 v).2 hv
      rw [qRn_at hO hoc hj.1 hj.2]; exact hm.1 j hj.1 hj.2
    · obtain ⟨j, hj, rfl⟩ := (hO.2.1 v).2 hv
      obtain ⟨i, hi, rfl⟩ := (hO.2.1 w).2 hw
      rw [qRn_at hO hoc hj.1 hj.2, qRn_at hO hoc hi.1 hi.2] at e
      by_cases q : j = i
      · rw [q]
      · by_cases q2 : j < i
        · exact absurd e (hm.2 j i hj.1 q2 hi.2)
        · exact absurd e.symm (hm.2 i j hi.1 (by omega) hj.2)
  refine ⟨aF ot 0 oc.toNat, aF_pw _ _ (fun i j i0 ij j1 => hO.2.2 i j i0 ij (by omega)), fun v => ?_, ?_⟩
  · rw [aF_mem]
    exact ⟨fun ⟨i, hi, e⟩ => (hO.2.1 v).1 ⟨i, by omega, e.symm⟩, fun h => by
      obtain ⟨i, hi, e⟩ := (hO.2.1 v).2 h
      exact ⟨i, by omega, e.symm⟩⟩
  · rw [len]
    rcases L with ⟨_, no⟩ | ⟨_, ⟨m, hm, r⟩, ls⟩
    · exact absurd ⟨fun i i0 i1 => by show 2 ≤ 2 + i ∧ 2 + i < 2 + oc; omega, fun i j i0 ij j1 e => by have e' : 2 + i = 2 + j := e; omega⟩ (no (fun i => 2 + i))
    · refine ⟨⟨qRn ot m, nm m hm, r⟩, fun r' e hr he => ?_⟩
      refine ls (fun i => r' (ot i)) ⟨fun i i0 i1 => hr.1 _ ((hO.2.1 _).1 ⟨i, ⟨i0, i1⟩, rfl⟩), fun i j i0 ij j1 q => ?_⟩ e ?_
      · exact hO.2.2 i j i0 ij j1 (hr.2 _ _ ((hO.2.1 _).1 ⟨i, ⟨i0, by omega⟩, rfl⟩) ((hO.2.1 _).1 ⟨j, ⟨by omega, j1⟩, rfl⟩) q)
      · have eq : l.map (qCd a b (qRn ot (fun i => r' (ot i)))) = l.map (qCd a b r') := qCd_c (fun v hv => by
          obtain ⟨j, hj, rfl⟩ := (hO.2.1 v).2 hv
          rw [qRn_at hO hoc hj.1 hj.2])
        unfold qRow at he ⊢
        rw [eq]; exact he
end
