/-! QlRewrite (room QR): the draft comes to its name -/
section
variable {kd : Nat → Nat} {an : Nat → Nat} {ai : Nat → Int → Int} {al : Nat → Int → Int} {ar : Nat → Int → Option Nat} {mX40_kinds : Nat → Option Nat} {mX40_lefts : Nat → Option Nat} {mX40_rights : Nat → Option Nat} {mX40_axioms : Nat → Int} {mX40_classFacts : Nat → Option Nat} {mX40_roleFacts : Nat → Option Nat} {mX40_facts : Nat → Int} {mX40_draft : Nat → Option Nat} {mX40_questions : Nat → Option Nat} {mX40_questionCount : Nat → Int} {mX40_forbidden : Nat → Option Nat} {mX40_given : Nat → Option Nat} {mX41_first : Nat → Int} {mX41_second : Nat → Int} {mX41_names : Nat → Option Nat} {mX41_from : Nat → Option Nat} {mX41_to : Nat → Option Nat} {mX41_n : Nat → Int} {mX41_codes : Nat → Option Nat} {mX41_least : Nat → Option Nat} {mX41_hasLeast : Nat → Int} {mX41_others : Nat → Option Nat} {mX41_otherCount : Nat → Int} {mX41_named : Nat → Option Nat} {mX62_answers : Nat → Int} {mX62_names : Nat → Option Nat} {mX62_from : Nat → Option Nat} {mX62_to : Nat → Option Nat} {mX62_n : Nat → Int} {mX62_forms : Nat → Option Nat} {mX62_count : Nat → Int} {mX62_large : Nat → Int} {mX62_known : Nat → Int} {mX85_first : Nat → Int} {mX85_second : Nat → Int} {mX85_codes : Nat → Option Nat} {x : Nat} {P : Nat → Nat} {n k v oc : Int} {Pr : Int → Prop} {l : List qA} {V : (Int → Int) → Prop}
theorem CQR_note {post : (Nat → Int → Int) → (Nat → Int) → Prop} (D : qcD kd an mX41_names mX41_from mX41_to mX41_others mX41_codes mX41_least mX41_named x P) (hO : qOo (ai (P 3)) (mX41_otherCount x) Pr) (hoc : mX41_otherCount x < 8) (hp : ∀ ai' oc', qcG P 3 4 ai ai' → qOo (ai' (P 3)) (oc' x) (fun u => Pr u ∨ (u = v ∧ qOt (mX41_first x) (mX41_second x) v)) → oc' x ≤ mX41_otherCount x + 1 → post ai' oc') : wpQR_X41_note post kd an ai mX41_first mX41_second mX41_others mX41_otherCount x v := by
  obtain ⟨kx, ⟨eN, eF, eT, eO, eC, eL, eM⟩, hKd, hNe⟩ := D
  obtain ⟨k0, a0⟩ := hKd 0 (by decide)
  obtain ⟨k1, a1⟩ := hKd 1 (by decide)
  obtain ⟨k2, a2⟩ := hKd 2 (by decide)
  obtain ⟨k3, a3⟩ := hKd 3 (by decide)
  obtain ⟨k4, a4⟩ := hKd 4 (by decide)
  obtain ⟨k5, a5⟩ := hKd 5 (by decide)
  obtain ⟨k6, a6⟩ := hKd 6 (by decide)
  have a0 : an (P 0) = 4 := a0
  have a1 : an (P 1) = 4 := a1
  have a2 : an (P 2) = 4 := a2
  have a3 : an (P 3) = 8 := a3
  have a4 : an (P 4) = 4 := a4
  have a5 : an (P 5) = 4 := a5
  have a6 : an (P 6) = 8 := a6
  obtain ⟨h0, h1, h2⟩ := hO
  have no : ¬ qOt (mX41_first x) (mX41_second x) v → post ai mX41_otherCount := fun ho => hp _ _ qcG.refl ⟨h0, fun u => (h1 u).trans ⟨Or.inl, fun z => z.resolve_right (fun y => ho y.2)⟩, h2⟩ (by omega)
  unfold wpQR_X41_note
  refine CQR_isVarB (fun z6 z7 => ⟨fun za => no (fun h => h.2.2.1 za), fun za => ⟨fun zb => no (fun h => h.2.2.2 zb), fun zb => ?_⟩⟩) (fun z => no (fun h => z.elim h.1 h.2.1))
  have ho : qOt (mX41_first x) (mX41_second x) v := ⟨z6, z7, za, zb⟩
  refine wl2 (fun fu c j => wQR_X41_note_28 _ x v kd an ai mX41_others mX41_otherCount fu c j) (fun c j => (0 ≤ j ∧ j ≤ mX41_otherCount x) ∧ ((c = 0 ∧ ∀ i, 0 ≤ i → i < j → ¬ ai (P 3) i = v) ∨ (c = 1 ∧ ∃ i, (0 ≤ i ∧ i < mX41_otherCount x) ∧ ai (P 3) i = v))) (fun _ j => (mX41_otherCount x - j).toNat) ?_ 0 0 ⟨by omega, Or.inl ⟨rfl, fun i i0 i1 => by omega⟩⟩
  rintro c j ⟨hj, hc⟩ f ih
  rw [wQR_X41_note_28]
  refine ⟨fun z => ⟨fun c0 => kOn_of eO ⟨k3, by rw [a3]; omega, fun ai2 e2 => ⟨by omega, fun w ew oc' eo => ?_⟩⟩, fun c1 => ?_⟩, fun z => ⟨fun c0 => kOn_of eO ⟨k3, by rw [a3]; omega, fun q => ⟨by omega, fun _ e => ?_⟩, fun q => ⟨by omega, fun _ e => ?_⟩⟩, fun c1 => ⟨by omega, fun _ e => ?_⟩⟩⟩
  · have hno : ∀ i, 0 ≤ i → i < j → ¬ ai (P 3) i = v := by
      rcases hc with hc | hc
      · exact hc.2
      · omega
    have ej : j = mX41_otherCount x := by omega
    have ox : oc' x = mX41_otherCount x + 1 := by rw [eo, va_up_self, ew]
    have r3 : ai2 (P 3) = updI (ai (P 3)) (mX41_otherCount x) v := by rw [e2, va_up_self]
    refine hp _ _ (by rw [e2]; exact qcG.up (i := 3) (by decide) (by decide)) ?_ (by omega)
    rw [ox, r3]
    refine ⟨by omega, fun u => ?_, fun i j' i0 ij j1 => ?_⟩
    · constructor
      · rintro ⟨q, hq, e⟩
        by_cases y : q = mX41_otherCount x
        · rw [y, updI_s] at e
          exact Or.inr ⟨e.symm, ho⟩
        · rw [updI_n y] at e
          exact Or.inl ((h1 u).1 ⟨q, by omega, e⟩)
      · rintro (h | h)
        · obtain ⟨q, hq, e⟩ := (h1 u).2 h
          exact ⟨q, by omega, by rw [updI_n (by omega)]; exact e⟩
        · exact ⟨mX41_otherCount x, by omega, by rw [updI_s]; exact h.1.symm⟩
    · by_cases q : j' = mX41_otherCount x
      · rw [q, updI_s, updI_n (by omega)]
        exact hno i i0 (by omega)
      · rw [updI_n q, updI_n (by omega)]
        exact h2 i j' i0 ij (by omega)
  · rcases hc with hc | ⟨_, i, hi, e⟩
    · exact absurd hc.1 c1
    · refine hp _ _ qcG.refl ⟨h0, fun u => (h1 u).trans ⟨Or.inl, fun q => q.elim id (fun q => ?_)⟩, h2⟩ (by omega)
      rw [q.1]
      exact (h1 v).1 ⟨i, hi, e⟩
  · rw [e]
    exact ih _ _ ⟨by omega, Or.inr ⟨rfl, j, by omega, q⟩⟩ (by omega)
  · rw [e]
    refine ih _ _ ⟨by omega, hc.imp (fun h => ⟨rfl, fun i i0 i1 => ?_⟩) (fun h => absurd h.1 (by omega))⟩ (by omega)
    by_cases y : i = j
    · rw [y]; exact q
    · exact h.2 i i0 (by omega)
  · rw [e]
    exact ih _ _ ⟨by omega, hc.imp (fun h => absurd h.1 c1) (fun h => ⟨rfl, h.2⟩)⟩ (by omega)
theorem CQR_s36 {K : (Nat → Int → Int) → (Nat → Int) → Prop} (D : qcD kd an mX41_names mX41_from mX41_to mX41_others mX41_codes mX41_least mX41_named x P) (n4 : 0 ≤ mX41_n x ∧ mX41_n x ≤ 4) (ho : mX41_otherCount x = 0) (hK : ∀ ai' oc', qcG P 3 4 ai ai' → qOo (ai' (P 3)) (oc' x) (fun v => qOt (mX41_first x) (mX41_second x) v ∧ ∃ k, (0 ≤ k ∧ k < mX41_n x) ∧ (ai (P 1) k = v ∨ ai (P 2) k = v)) → oc' x ≤ 8 → K ai' oc') : ∃ fu : Nat, wQR_X41_settle_36 K x kd an mX41_first mX41_second mX41_from mX41_to mX41_n mX41_others fu 0 ai mX41_otherCount := by
  have D' := D
  obtain ⟨kx, ⟨eN, eF, eT, eO, eC, eL, eM⟩, hKd, hNe⟩ := D
  obtain ⟨k0, a0⟩ := hKd 0 (by decide)
  obtain ⟨k1, a1⟩ := hKd 1 (by decide)
  obtain ⟨k2, a2⟩ := hKd 2 (by decide)
  obtain ⟨k3, a3⟩ := hKd 3 (by decide)
  obtain ⟨k4, a4⟩ := hKd 4 (by decide)
  obtain ⟨k5, a5⟩ := hKd 5 (by decide)
  obtain ⟨k6, a6⟩ := hKd 6 (by decide)
  have a0 : an (P 0) = 4 := a0
  have a1 : an (P 1) = 4 := a1
  have a2 : an (P 2) = 4 := a2
  have a3 : an (P 3) = 8 := a3
  have a4 : an (P 4) = 4 := a4
  have a5 : an (P 5) = 4 := a5
  have a6 : an (P 6) = 8 := a6
  refine wl3 (fun fu k ai' oc' => wQR_X41_settle_36 K x kd an mX41_first mX41_second mX41_from mX41_to mX41_n mX41_others fu k ai' oc') (fun k ai' oc' => (0 ≤ k ∧ k ≤ mX41_n x) ∧ qcG P 3 4 ai ai' ∧ qOo (ai' (P 3)) (oc' x) (fun v => qOt (mX41_first x) (mX41_second x) v ∧ ∃ i, (0 ≤ i ∧ i < k) ∧ (ai (P 1) i = v ∨ ai (P 2) i = v)) ∧ oc' x ≤ 2 * k) (fun k _ _ => (mX41_n x - k).toNat) ?_ 0 ai mX41_otherCount ⟨by omega, qcG.refl, ⟨by omega, fun v => ⟨fun ⟨k, h, _⟩ => by omega, fun ⟨_, i, h, _⟩ => by omega⟩, fun i j i0 ij j1 => by omega⟩, by omega⟩
  rintro k ai1 oc1 ⟨hk, G, hO, hoo⟩ f ih
  rw [wQR_X41_settle_36]
  have g1 : ai1 (P 1) = ai (P 1) := G.o hNe (by decide) (by decide) (Or.inl (by decide))
  refine ⟨fun z => hK _ _ G (by rw [show mX41_n x = k by omega]; exact hO) (by omega), fun z => kOn_of eF ⟨k1, by rw [a1]; omega, CQR_note D' hO (by omega) (fun ai2 oc2 G2 O2 l2 => kOn_of eT ⟨k2, by rw [a2]; omega, CQR_note D' O2 (by omega) (fun ai3 oc3 G3 O3 l3 => ⟨by omega, fun _ e => ?_⟩)⟩)⟩⟩
  have g2 : ai2 (P 2) = ai (P 2) := (G.tr G2).o hNe (by decide) (by decide) (Or.inl (by decide))
  rw [e]
  refine ih _ _ _ ⟨by omega, (G.tr G2).tr G3, O3.cg (fun v => ?_), by omega⟩ (by omega)
  rw [g1, g2]
  constructor
  · rintro ((⟨h, i, hi, q⟩ | ⟨h, q⟩) | ⟨h, q⟩)
    · exact ⟨h, i, by omega, q⟩
    · rw [h]; exact ⟨q, k, by omega, Or.inl rfl⟩
    · rw [h]; exact ⟨q, k, by omega, Or.inr rfl⟩
  · rintro ⟨h, i, hi, q⟩
    by_cases y : i = k
    · rw [y] at q
      rcases q with q | q
      · exact Or.inl (Or.inr ⟨q.symm, by rw [q]; exact h⟩)
      · exact Or.inr ⟨q.symm, by rw [q]; exact h⟩
    · exact Or.inl (Or.inl ⟨h, i, by omega, q⟩)
theorem CQR_nameOf {post : Int → Prop} (D : qcD kd an mX41_names mX41_from mX41_to mX41_others mX41_codes mX41_least mX41_named x P) (hO : qOt (mX41_first x) (mX41_second x) v → ∃ k, (0 ≤ k ∧ k < 8) ∧ ai (P 3) k = v) (hp : post (qCo (mX41_first x) (mX41_second x) (qRn (ai (P 3)) (ai (P 6))) v)) : wpQR_X41_nameOf post kd an ai mX41_first mX41_second mX41_others mX41_named x v := by
  obtain ⟨kx, ⟨eN, eF, eT, eO, eC, eL, eM⟩, hKd, hNe⟩ := D
  obtain ⟨k0, a0⟩ := hKd 0 (by decide)
  obtain ⟨k1, a1⟩ := hKd 1 (by decide)
  obtain ⟨k2, a2⟩ := hKd 2 (by decide)
  obtain ⟨k3, a3⟩ := hKd 3 (by decide)
  obtain ⟨k4, a4⟩ := hKd 4 (by decide)
  obtain ⟨k5, a5⟩ := hKd 5 (by decide)
  obtain ⟨k6, a6⟩ := hKd 6 (by decide)
  have a0 : an (P 0) = 4 := a0
  have a1 : an (P 1) = 4 := a1
  have a2 : an (P 2) = 4 := a2
  have a3 : an (P 3) = 8 := a3
  have a4 : an (P 4) = 4 := a4
  have a5 : an (P 5) = 4 := a5
  have a6 : an (P 6) = 8 := a6
  unfold qCo at hp
  unfold wpQR_X41_nameOf
  refine CQR_isVarB (fun z6 z7 => ?_) (fun z => ?_)
  · rw [if_neg (fun h => h.elim z6 z7)] at hp
    refine ⟨fun za => ?_, fun za => ⟨fun zb => ?_, fun zb => ?_⟩⟩
    · rw [if_pos za] at hp; exact hp
    · rw [if_neg za, if_pos zb] at hp; exact hp
    rw [if_neg za, if_neg zb] at hp
    obtain ⟨q, hq, eq⟩ := hO ⟨z6, z7, za, zb⟩
    refine wloop (fun fu j => wQR_X41_nameOf_31 _ x v kd an ai mX41_others fu j) (fun j => (0 ≤ j ∧ j ≤ q) ∧ ∀ i, 0 ≤ i → i < j → ¬ ai (P 3) i = v) (fun j => (q - j).toNat) ?_ 0 ⟨by omega, fun i i0 i1 => by omega⟩
    rintro j ⟨hj, hno⟩ f ih
    rw [wQR_X41_nameOf_31]
    refine kOn_of eO ⟨k3, by rw [a3]; omega, fun y => kOn_of eM ⟨k6, by rw [a6]; omega, ?_⟩, fun y => ⟨by omega, fun _ e => ?_⟩⟩
    · have fe : fstI (fun k => ai (P 3) k = v) 8 = j := fstI_u hj.1 (by omega) (fun _ => y) hno
      unfold qRn at hp
      rw [fe] at hp
      exact hp
    · rw [e]
      have : ¬ j = q := fun w => y (by rw [w]; exact eq)
      refine ih _ ⟨by omega, fun i i0 i1 => ?_⟩ (by omega)
      by_cases w : i = j
      · rw [w]; exact y
      · exact hno i i0 (by omega)
  · rw [if_pos z] at hp; exact hp
theorem CQR_c2 {K : (Nat → Int → Int) → Prop} (D : qcD kd an mX41_names mX41_from mX41_to mX41_others mX41_codes mX41_least mX41_named x P) (n4 : 0 ≤ mX41_n x ∧ mX41_n x ≤ 4) (hnm : ∀ k, 0 ≤ k → k < mX41_n x → 0 ≤ ai (P 0) k ∧ ai (P 0) k < 64) (hO : ∀ k, 0 ≤ k → k < mX41_n x → (qOt (mX41_first x) (mX41_second x) (ai (P 1) k) → ∃ j, (0 ≤ j ∧ j < 8) ∧ ai (P 3) j = ai (P 1) k) ∧ (qOt (mX41_first x) (mX41_second x) (ai (P 2) k) → ∃ j, (0 ≤ j ∧ j < 8) ∧ ai (P 3) j = ai (P 2) k))
  (hB : ∀ k, 0 ≤ k → k < mX41_n x → (0 ≤ qCo (mX41_first x) (mX41_second x) (qRn (ai (P 3)) (ai (P 6))) (ai (P 1) k) ∧ qCo (mX41_first x) (mX41_second x) (qRn (ai (P 3)) (ai (P 6))) (ai (P 1) k) < 8) ∧ 0 ≤ qCo (mX41_first x) (mX41_second x) (qRn (ai (P 3)) (ai (P 6))) (ai (P 2) k) ∧ qCo (mX41_first x) (mX41_second x) (qRn (ai (P 3)) (ai (P 6))) (ai (P 2) k) < 8)
  (hK : ∀ ai', qcG P 4 5 ai ai' → qRow (mX41_first x) (mX41_second x) (aF (qAr (ai (P 0)) (ai (P 1)) (ai (P 2))) 0 (mX41_n x).toNat) (qRn (ai (P 3)) (ai (P 6))) (aF (ai' (P 4)) 0 (mX41_n x).toNat) → K ai') : ∃ fu : Nat, wQR_X41_compare_2 K x kd an mX41_first mX41_second mX41_names mX41_from mX41_to mX41_n mX41_codes mX41_others mX41_named fu 0 ai := by
  have D' := D
  obtain ⟨kx, ⟨eN, eF, eT, eO, eC, eL, eM⟩, hKd, hNe⟩ := D
  obtain ⟨k0, a0⟩ := hKd 0 (by decide)
  obtain ⟨k1, a1⟩ := hKd 1 (by decide)
  obtain ⟨k2, a2⟩ := hKd 2 (by decide)
  obtain ⟨k3, a3⟩ := hKd 3 (by decide)
  obtain ⟨k4, a4⟩ := hKd 4 (by decide)
  obtain ⟨k5, a5⟩ := hKd 5 (by decide)
  obtain ⟨k6, a6⟩ := hKd 6 (by decide)
  have a0 : an (P 0) = 4 := a0
  have a1 : an (P 1) = 4 := a1
  have a2 : an (P 2) = 4 := a2
  have a3 : an (P 3) = 8 := a3
  have a4 : an (P 4) = 4 := a4
  have a5 : an (P 5) = 4 := a5
  have a6 : an (P 6) = 8 := a6
  refine wl2 (fun fu k ai' => wQR_X41_compare_2 K x kd an mX41_first mX41_second mX41_names mX41_from mX41_to mX41_n mX41_codes mX41_others mX41_named fu k ai') (fun k ai' => (0 ≤ k ∧ k ≤ mX41_n x) ∧ qcG P 4 5 ai ai' ∧ (aF (ai' (P 4)) 0 k.toNat).Perm (aF (fun i => qCd (mX41_first x) (mX41_second x) (qRn (ai (P 3)) (ai (P 6))) (qAr (ai (P 0)) (ai (P 1)) (ai (P 2)) i)) 0 k.toNat) ∧ ∀ i j, 0 ≤ i → i < j → j < k → ai' (P 4) i ≤ ai' (P 4) j) (fun k _ => (mX41_n x - k).toNat) ?_ 0 ai ⟨by omega, qcG.refl, List.Perm.refl _, fun i j a b c => by omega⟩
  rintro k ai1 ⟨hk, G, hP, hS⟩ f ih
  rw [wQR_X41_compare_2]
  have g0 : ai1 (P 0) = ai (P 0) := G.o hNe (by decide) (by decide) (Or.inl (by decide))
  have g1 : ai1 (P 1) = ai (P 1) := G.o hNe (by decide) (by decide) (Or.inl (by decide))
  have g2 : ai1 (P 2) = ai (P 2) := G.o hNe (by decide) (by decide) (Or.inl (by decide))
  have g3 : ai1 (P 3) = ai (P 3) := G.o hNe (by decide) (by decide) (Or.inl (by decide))
  have g6 : ai1 (P 6) = ai (P 6) := G.o hNe (by decide) (by decide) (Or.inr (by decide))
  refine ⟨fun z => hK _ G ⟨?_, aF_pw _ _ (fun i j i0 ij j1 => hS i j i0 ij (by omega))⟩, fun z => kOn_of eN ⟨k0, by rw [a0]; omega, kOn_of eF ⟨k1, by rw [a1]; omega, CQR_nameOf D' (fun h => ?_) (kOn_of eT ⟨k2, by rw [a2]; omega, CQR_nameOf D' (fun h => ?_) ?_⟩)⟩⟩⟩
  · rw [aF_map, show (mX41_n x).toNat = k.toNat by omega]; exact hP
  · rw [g3]; rw [g1] at h ⊢; exact (hO k hk.1 (by omega)).1 h
  · rw [g3]; rw [g2] at h ⊢; exact (hO k hk.1 (by omega)).2 h
  rw [g0, g1, g2, g3, g6]
  have b0 := hnm k hk.1 (by omega)
  have b1 := hB k hk.1 (by omega)
  refine ⟨by omega, fun cd ecd => ?_⟩
  have ecd' : cd = qCd (mX41_first x) (mX41_second x) (qRn (ai (P 3)) (ai (P 6))) (qAr (ai (P 0)) (ai (P 1)) (ai (P 2)) k) := ecd
  refine wl2 (fun fu t ai' => wQR_X41_compare_47 _ x cd kd an mX41_codes fu t ai') (fun t ai' => (0 ≤ t ∧ t ≤ k) ∧ qcG P 4 5 ai1 ai' ∧ (∀ i, ai' (P 4) i = if t < i ∧ i ≤ k then ai1 (P 4) (i - 1) else ai1 (P 4) i) ∧ ∀ i, t ≤ i → i < k → cd < ai1 (P 4) i) (fun t _ => t.toNat) ?_ k ai1 ⟨by omega, qcG.refl, fun i => by rw [if_neg (by omega)], fun i a b => by omega⟩
  rintro t ai2 ⟨ht, G2, hA, hL⟩ f2 ih2
  rw [wQR_X41_compare_47]
  have fin : (∀ i, 0 ≤ i → i < t → ai1 (P 4) i ≤ cd) → kOn (mX41_codes x) (fun b => kd b = 5 ∧ ((0 ≤ t ∧ t < (an b : Int)) ∧ (∀ ai_47 : Nat → Int → Int, ai_47 = va_up ai2 b (updI (ai2 b) t cd) → (zR (k + 1) ∧ (∀ x1_48 : Int, x1_48 = k + 1 → (wQR_X41_compare_2 K x kd an mX41_first mX41_second mX41_names mX41_from mX41_to mX41_n mX41_codes mX41_others mX41_named f x1_48 ai_47)))))) := fun hle => kOn_of eC ⟨k4, by rw [a4]; omega, fun ai3 e3 => ⟨by omega, fun _ e => ?_⟩⟩
  · refine ⟨fun z0 => fin (fun i i0 i1 => by omega), fun z0 => kOn_of eC ⟨k4, by rw [a4]; omega, by omega, fun y => fin (fun i i0 i1 => ?_), fun y w ew => ⟨by rw [a4]; omega, fun ai3' e3' => ⟨by omega, fun t' et => ?_⟩⟩⟩⟩
    · rw [hA (t - 1), if_neg (by omega)] at y
      by_cases q : i = t - 1
      · rw [q]; exact y
      · exact Int.le_trans (hS i (t - 1) i0 (by omega) (by omega)) y
    · have y' := y
      rw [hA (t - 1), if_neg (by omega)] at ew y'
      rw [et]
      refine ih2 _ _ ⟨by omega, by rw [e3']; exact G2.tr (qcG.up (i := 4) (by decide) (by decide)), fun i => ?_, fun i i0 i1 => ?_⟩ (by omega)
      · rw [e3', va_up_self, updI_e]
        by_cases q : i = t
        · rw [if_pos q, if_pos (by omega), ew, q]
        · rw [if_neg q, hA i]
          by_cases q2 : t < i ∧ i ≤ k
          · rw [if_pos q2, if_pos (by omega)]
          · rw [if_neg q2, if_neg (by omega)]
      · by_cases q : i = t - 1
        · rw [q]; omega
        · exact hL i (by omega) i1
  · have cl : ∀ i, ai3 (P 4) i = if i = t then cd else if t < i ∧ i ≤ k then ai1 (P 4) (i - 1) else ai1 (P 4) i := fun i => by
      rw [e3, va_up_self, updI_e]
      by_cases y : i = t
      · rw [if_pos y, if_pos y]
      · rw [if_neg y, if_neg y, hA i]
    rw [e]
    refine ih _ _ ⟨by omega, by rw [e3]; exact (G.tr G2).tr (qcG.up (i := 4) (by decide) (by decide)), ?_, fun i j i0 ij j1 => ?_⟩ (by omega)
    · have ek : (k + 1).toNat = k.toNat + 1 := by omega
      have e2 := aF_s (f := fun i => qCd (mX41_first x) (mX41_second x) (qRn (ai (P 3)) (ai (P 6))) (qAr (ai (P 0)) (ai (P 1)) (ai (P 2)) i)) k.toNat 0
      rw [ek]
      have pm := aF_ins (f := ai1 (P 4)) (g := ai3 (P 4)) (k := k.toNat) (t := t) (v := cd) (by omega) (fun i i0 i1 => by
        rw [cl i]
        by_cases y : i = t
        · rw [if_pos y, if_pos y]
        · rw [if_neg y, if_neg y]
          by_cases y2 : t < i
          · rw [if_pos (by omega), if_pos y2]
          · rw [if_neg (by omega), if_neg y2])
      refine pm.trans ?_
      rw [e2]
      rw [show (0 : Int) + (k.toNat : Int) = k by omega, ← ecd']
      exact (List.Perm.cons cd hP).trans (List.perm_append_comm (l₁ := [cd]))
    · rw [cl i, cl j]
      by_cases y : i = t
      · rw [if_pos y, if_neg (by omega), if_pos (by omega)]
        exact Int.le_of_lt (hL (j - 1) (by omega) (by omega))
      · rw [if_neg y]
        by_cases y2 : j = t
        · rw [if_pos y2, if_neg (by omega)]
          exact hle i i0 (by omega)
        · rw [if_neg y2]
          by_cases y3 : t < j
          · rw [if_pos (show t < j ∧ j ≤ k by omega)]
            by_cases y4 : t < i
            · rw [if_pos (show t < i ∧ i ≤ k by omega)]
              exact hS (i - 1) (j - 1) (by omega) (by omega) (by omega)
            · rw [if_neg (by omega)]
              by_cases y5 : i = j - 1
              · rw [y5]; exact Int.le_refl _
              · exact hS i (j - 1) i0 (by omega) (by omega)
          · rw [if_neg (by omega), if_neg (by omega)]
            exact hS i j i0 ij (by omega)
theorem CQR_c172 {K : (Nat → Int → Int) → Prop} (D : qcD kd an mX41_names mX41_from mX41_to mX41_others mX41_codes mX41_least mX41_named x P) (n4 : 0 ≤ mX41_n x ∧ mX41_n x ≤ 4) (hK : ∀ ai', qcG P 5 6 ai ai' → (∀ i, 0 ≤ i → i < mX41_n x → ai' (P 5) i = ai (P 4) i) → K ai') : ∃ fu : Nat, wQR_X41_compare_172 K x kd an mX41_n mX41_codes mX41_least fu 0 ai := by
  obtain ⟨kx, ⟨eN, eF, eT, eO, eC, eL, eM⟩, hKd, hNe⟩ := D
  obtain ⟨k0, a0⟩ := hKd 0 (by decide)
  obtain ⟨k1, a1⟩ := hKd 1 (by decide)
  obtain ⟨k2, a2⟩ := hKd 2 (by decide)
  obtain ⟨k3, a3⟩ := hKd 3 (by decide)
  obtain ⟨k4, a4⟩ := hKd 4 (by decide)
  obtain ⟨k5, a5⟩ := hKd 5 (by decide)
  obtain ⟨k6, a6⟩ := hKd 6 (by decide)
  have a0 : an (P 0) = 4 := a0
  have a1 : an (P 1) = 4 := a1
  have a2 : an (P 2) = 4 := a2
  have a3 : an (P 3) = 8 := a3
  have a4 : an (P 4) = 4 := a4
  have a5 : an (P 5) = 4 := a5
  have a6 : an (P 6) = 8 := a6
  refine wl2 (fun fu k ai' => wQR_X41_compare_172 K x kd an mX41_n mX41_codes mX41_least fu k ai') (fun k ai' => (0 ≤ k ∧ k ≤ mX41_n x) ∧ qcG P 5 6 ai ai' ∧ ∀ i, 0 ≤ i → i < k → ai' (P 5) i = ai (P 4) i) (fun k _ => (mX41_n x - k).toNat) ?_ 0 ai ⟨by omega, qcG.refl, fun i a b => by omega⟩
  rintro k ai1 ⟨hk, G, hJ⟩ f ih
  rw [wQR_X41_compare_172]
  have g4 : ai1 (P 4) = ai (P 4) := G.o hNe (by decide) (by decide) (Or.inl (by decide))
  refine ⟨fun z => hK _ G (fun i i0 i1 => hJ i i0 (by omega)), fun z => kOn_of eC ⟨k4, by rw [a4]; omega, fun w ew => kOn_of eL ⟨k5, by rw [a5]; omega, fun ai2 e2 => ⟨by omega, fun _ e => ?_⟩⟩⟩⟩
  rw [e]
  refine ih _ _ ⟨by omega, by rw [e2]; exact G.tr (qcG.up (i := 5) (by decide) (by decide)), fun i i0 i1 => ?_⟩ (by omega)
  rw [e2, va_up_self, updI_e]
  by_cases y : i = k
  · rw [if_pos y, ew, g4, y]
  · rw [if_neg y]; exact hJ i i0 (by omega)
theorem CQR_compare {post : (Nat → Int → Int) → (Nat → Int) → Prop} (D : qcD kd an mX41_names mX41_from mX41_to mX41_others mX41_codes mX41_least mX41_named x P) (n4 : 0 ≤ mX41_n x ∧ mX41_n x ≤ 4) (hnm : ∀ k, 0 ≤ k → k < mX41_n x → 0 ≤ ai (P 0) k ∧ ai (P 0) k < 64) (hO : qOo (ai (P 3)) oc (fun v => qOt (mX41_first x) (mX41_second x) v ∧ ∃ k, (0 ≤ k ∧ k < mX41_n x) ∧ (ai (P 1) k = v ∨ ai (P 2) k = v))) (hoc : oc ≤ 4) (hnd : qPm oc (ai (P 6)))
  (L : qLq (mX41_first x) (mX41_second x) (aF (qAr (ai (P 0)) (ai (P 1)) (ai (P 2))) 0 (mX41_n x).toNat) (ai (P 3)) V (mX41_hasLeast x) (aF (ai (P 5)) 0 (mX41_n x).toNat))
  (hp : ∀ ai' hl', qcG P 4 6 ai ai' → qLq (mX41_first x) (mX41_second x) (aF (qAr (ai (P 0)) (ai (P 1)) (ai (P 2))) 0 (mX41_n x).toNat) (ai (P 3)) (fun m => V m ∨ ∀ i, 0 ≤ i → i < oc → m i = ai (P 6) i) (hl' x) (aF (ai' (P 5)) 0 (mX41_n x).toNat) → post ai' hl') : wpQR_X41_compare post kd an ai mX41_first mX41_second mX41_names mX41_from mX41_to mX41_n mX41_codes mX41_least mX41_hasLeast mX41_others mX41_named x := by
  have D' := D
  obtain ⟨kx, ⟨eN, eF, eT, eO, eC, eL, eM⟩, hKd, hNe⟩ := D
  obtain ⟨k0, a0⟩ := hKd 0 (by decide)
  obtain ⟨k1, a1⟩ := hKd 1 (by decide)
  obtain ⟨k2, a2⟩ := hKd 2 (by decide)
  obtain ⟨k3, a3⟩ := hKd 3 (by decide)
  obtain ⟨k4, a4⟩ := hKd 4 (by decide)
  obtain ⟨k5, a5⟩ := hKd 5 (by decide)
  obtain ⟨k6, a6⟩ := hKd 6 (by decide)
  have a0 : an (P 0) = 4 := a0
  have a1 : an (P 1) = 4 := a1
  have a2 : an (P 2) = 4 := a2
  have a3 : an (P 3) = 8 := a3
  have a4 : an (P 4) = 4 := a4
  have a5 : an (P 5) = 4 := a5
  have a6 : an (P 6) = 8 := a6
  have hO' : qOo (ai (P 3)) oc (qOc (mX41_first x) (mX41_second x) (aF (qAr (ai (P 0)) (ai (P 1)) (ai (P 2))) 0 (mX41_n x).toNat)) := hO.cg (fun v => qOc_a.symm)
  have ex_ : ∀ v, (qOt (mX41_first x) (mX41_second x) v ∧ ∃ k, (0 ≤ k ∧ k < mX41_n x) ∧ (ai (P 1) k = v ∨ ai (P 2) k = v)) → ∃ j, (0 ≤ j ∧ j < oc) ∧ ai (P 3) j = v := fun v hv => (hO.2.1 v).2 hv
  have bd : ∀ v, (∃ k, (0 ≤ k ∧ k < mX41_n x) ∧ (ai (P 1) k = v ∨ ai (P 2) k = v)) → 0 ≤ qCo (mX41_first x) (mX41_second x) (qRn (ai (P 3)) (ai (P 6))) v ∧ qCo (mX41_first x) (mX41_second x) (qRn (ai (P 3)) (ai (P 6))) v < 8 := fun v hv => by
    unfold qCo
    by_cases z : v = 6 ∨ v = 7
    · rw [if_pos z]; omega
    · rw [if_neg z]
      by_cases za : v = mX41_first x
      · rw [if_pos za]; decide
      · rw [if_neg za]
        by_cases zb : v = mX41_second x
        · rw [if_pos zb]; decide
        · rw [if_neg zb]
          obtain ⟨j, hj, ej⟩ := ex_ v ⟨⟨fun w => z (Or.inl w), fun w => z (Or.inr w), za, zb⟩, hv⟩
          have := hnd.1 j hj.1 hj.2
          rw [← ej, qRn_at hO' (by omega) hj.1 hj.2]; omega
  unfold wpQR_X41_compare
  refine CQR_c2 D' n4 hnm (fun k k0 k1 => ⟨fun h => ?_, fun h => ?_⟩) (fun k k0 k1 => ⟨bd _ ⟨k, ⟨k0, k1⟩, Or.inl rfl⟩, bd _ ⟨k, ⟨k0, k1⟩, Or.inr rfl⟩⟩) (fun ai1 G1 row => ?_)
  · obtain ⟨j, hj, ej⟩ := ex_ _ ⟨h, k, ⟨k0, k1⟩, Or.inl rfl⟩
    exact ⟨j, by omega, ej⟩
  · obtain ⟨j, hj, ej⟩ := ex_ _ ⟨h, k, ⟨k0, k1⟩, Or.inr rfl⟩
    exact ⟨j, by omega, ej⟩
  have g5 : ai1 (P 5) = ai (P 5) := G1.o hNe (by decide) (by decide) (Or.inr (by decide))
  have c01 : mX41_hasLeast x = 0 ∨ mX41_hasLeast x = 1 := L.imp (fun h => h.1) (fun h => h.1)
  have copy : ((mX41_hasLeast x = 0) ∨ qLx (aF (ai1 (P 4)) 0 (mX41_n x).toNat) (aF (ai (P 5)) 0 (mX41_n x).toNat)) → ∀ hl1, hl1 = va_up mX41_hasLeast x 1 → ∃ fu : Nat, wQR_X41_compare_172 (fun ai_79 => post ai_79 hl1) x kd an mX41_n mX41_codes mX41_least fu 0 ai1 := fun h hl1 el => CQR_c172 D' n4 (fun ai2 G2 cp => hp _ _ ((G1.wd (by decide) (by decide)).tr (G2.wd (by decide) (by decide))) (by
    rw [el, va_up_self]
    exact L.add hO' (by omega) row (Or.inl ⟨aF_c _ _ (fun i i0 i1 => cp i i0 (by omega)), h⟩)))
  refine wloop (fun fu k => wQR_X41_compare_98 _ x kd an ai1 mX41_n mX41_codes mX41_least mX41_hasLeast fu k) (fun k => (0 ≤ k ∧ k ≤ mX41_n x) ∧ (mX41_hasLeast x = 0 → k = 0) ∧ ∀ i, 0 ≤ i → i < k → ai1 (P 4) i = ai (P 5) i) (fun k => (mX41_n x - k).toNat) ?_ 0 ⟨by omega, fun _ => rfl, fun i a b => by omega⟩
  rintro k ⟨hk, hc, hJ⟩ f ih
  rw [wQR_X41_compare_98]
  have done : (mX41_hasLeast x = 0 ∨ k = mX41_n x ∨ ¬ ai1 (P 4) k = ai (P 5) k) → wQR_X41_compare_134 post x k kd an ai1 mX41_n mX41_codes mX41_least mX41_hasLeast := fun hd => by
    unfold wQR_X41_compare_134
    refine ⟨fun c0 hl1 el => copy (Or.inl c0) hl1 el, fun c1 => ⟨fun y => hp _ _ (G1.wd (by decide) (by decide)) ?_, fun y => kOn_of eC ⟨k4, by rw [a4]; omega, kOn_of eL ⟨k5, by rw [a5]; omega, fun q hl1 el => copy (Or.inr ?_) hl1 el, fun q => hp _ _ (G1.wd (by decide) (by decide)) ?_⟩⟩⟩⟩
    · have e1 : mX41_hasLeast x = 1 := c01.resolve_left c1
      rw [g5, e1]
      rw [e1] at L
      exact L.add hO' (by omega) row (Or.inr ⟨rfl, rfl, by
        rw [aF_c (f := ai (P 5)) (g := ai1 (P 4)) _ _ (fun i i0 i1 => (hJ i i0 (by omega)).symm)]; exact qLx_r _⟩)
    · rw [g5] at q
      have ne := (hd.resolve_left c1).resolve_left y
      exact qLx_1 (k := k) _ _ hk.1 (fun i i0 i1 => hJ i i0 i1) (Or.inr ⟨by omega, by omega⟩)
    · rw [g5] at q
      have e1 : mX41_hasLeast x = 1 := c01.resolve_left c1
      rw [g5, e1]
      rw [e1] at L
      exact L.add hO' (by omega) row (Or.inr ⟨rfl, rfl, qLx_1 (k := k) _ _ hk.1 (fun i i0 i1 => (hJ i i0 i1).symm) (Or.inr ⟨by omega, by omega⟩)⟩)
  refine ⟨fun c0 => done (Or.inl c0), fun c1 => ⟨fun z => done (Or.inr (Or.inl (by omega))), fun z => kOn_of eC ⟨k4, by rw [a4]; omega, kOn_of eL ⟨k5, by rw [a5]; omega, fun q => ⟨by omega, fun _ e => ?_⟩, fun q => done (Or.inr (Or.inr (by rw [g5] at q; exact q)))⟩⟩⟩⟩
  rw [e]
  refine ih _ ⟨by omega, fun w => absurd w c1, fun i i0 i1 => ?_⟩ (by omega)
  by_cases y : i = k
  · rw [y, q, g5]
  · exact hJ i i0 (by omega)
end
