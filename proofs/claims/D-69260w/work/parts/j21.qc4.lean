/-! QlRewrite (room QR): all namings tried; the draft settled -/
/-- those that begin as p does -/
def qEx (oc k : Int) (p m : Int → Int) : Prop := qPm oc m ∧ ∀ i, 0 ≤ i → i < k → m i = p i
section
variable {kd : Nat → Nat} {an : Nat → Nat} {ai : Nat → Int → Int} {al : Nat → Int → Int} {ar : Nat → Int → Option Nat} {mX40_kinds : Nat → Option Nat} {mX40_lefts : Nat → Option Nat} {mX40_rights : Nat → Option Nat} {mX40_axioms : Nat → Int} {mX40_classFacts : Nat → Option Nat} {mX40_roleFacts : Nat → Option Nat} {mX40_facts : Nat → Int} {mX40_draft : Nat → Option Nat} {mX40_questions : Nat → Option Nat} {mX40_questionCount : Nat → Int} {mX40_forbidden : Nat → Option Nat} {mX40_given : Nat → Option Nat} {mX41_first : Nat → Int} {mX41_second : Nat → Int} {mX41_names : Nat → Option Nat} {mX41_from : Nat → Option Nat} {mX41_to : Nat → Option Nat} {mX41_n : Nat → Int} {mX41_codes : Nat → Option Nat} {mX41_least : Nat → Option Nat} {mX41_hasLeast : Nat → Int} {mX41_others : Nat → Option Nat} {mX41_otherCount : Nat → Int} {mX41_named : Nat → Option Nat} {mX62_answers : Nat → Int} {mX62_names : Nat → Option Nat} {mX62_from : Nat → Option Nat} {mX62_to : Nat → Option Nat} {mX62_n : Nat → Int} {mX62_forms : Nat → Option Nat} {mX62_count : Nat → Int} {mX62_large : Nat → Int} {mX62_known : Nat → Int} {mX85_first : Nat → Int} {mX85_second : Nat → Int} {mX85_codes : Nat → Option Nat} {x : Nat} {P : Nat → Nat} {n k v oc : Int} {l : List qA}
theorem CQR_name {e : Nat} (D : qcD kd an mX41_names mX41_from mX41_to mX41_others mX41_codes mX41_least mX41_named x P) (n4 : 0 ≤ mX41_n x ∧ mX41_n x ≤ 4) (hnm : ∀ k, 0 ≤ k → k < mX41_n x → 0 ≤ ai (P 0) k ∧ ai (P 0) k < 64) (hO : qOo (ai (P 3)) (mX41_otherCount x) (fun v => qOt (mX41_first x) (mX41_second x) v ∧ ∃ k, (0 ≤ k ∧ k < mX41_n x) ∧ (ai (P 1) k = v ∨ ai (P 2) k = v))) (hoc : mX41_otherCount x ≤ 4) : ∀ (d : Nat) (k u : Int) (ai1 : Nat → Int → Int) (hl1 : Nat → Int) (V : (Int → Int) → Prop) (post : (Nat → Int → Int) → (Nat → Int) → Prop), k + d = mX41_otherCount x → 0 ≤ k → qcG P 4 7 ai ai1 → mS u (fun v => ∃ i, (0 ≤ i ∧ i < k) ∧ ai1 (P 6) i = 2 + v) → ((∀ i, 0 ≤ i → i < k → 2 ≤ ai1 (P 6) i ∧ ai1 (P 6) i < 2 + mX41_otherCount x) ∧ ∀ i j, 0 ≤ i → i < j → j < k → ¬ ai1 (P 6) i = ai1 (P 6) j) →
  qLq (mX41_first x) (mX41_second x) (aF (qAr (ai (P 0)) (ai (P 1)) (ai (P 2))) 0 (mX41_n x).toNat) (ai (P 3)) (V) (hl1 x) (aF (ai1 (P 5)) 0 (mX41_n x).toNat) →
  (∀ ai' hl', qcG P 4 7 ai ai' → (∀ i, 0 ≤ i → i < k → ai' (P 6) i = ai1 (P 6) i) → qLq (mX41_first x) (mX41_second x) (aF (qAr (ai (P 0)) (ai (P 1)) (ai (P 2))) 0 (mX41_n x).toNat) (ai (P 3)) (fun m => V m ∨ qEx (mX41_otherCount x) k (ai1 (P 6)) m) (hl' x) (aF (ai' (P 5)) 0 (mX41_n x).toNat) → post ai' hl') → wpQR_X41_name (d + e + 1) post kd an ai1 mX41_first mX41_second mX41_names mX41_from mX41_to mX41_n mX41_codes mX41_least hl1 mX41_others mX41_otherCount mX41_named (some x) k u := fun d => by
  have D' := D
  obtain ⟨kx, ⟨eN, eF, eT, eO, eC, eL, eM⟩, hKd, hNe⟩ := D
  obtain ⟨k0, a0⟩ := hKd 0 (by decide)
  obtain ⟨k1, a1⟩ := hKd 1 (by decide)
  obtain ⟨k2, a2⟩ := hKd 2 (by decide)
  obtain ⟨k3, a3⟩ := hKd 3 (by decide)
  obtain ⟨k4, a4⟩ := hKd 4 (by decide)
  obtain ⟨k5, a5⟩ := hKd 5 (by decide)
  obtain ⟨k6, a6⟩ := hKd 6 (by decide)
  have a0 : an (P 0) = 4 := a0
  have a1 : an (P 1) = 4 := a1
  have a2 : an (P 2) = 4 := a2
  have a3 : an (P 3) = 8 := a3
  have a4 : an (P 4) = 4 := a4
  have a5 : an (P 5) = 4 := a5
  have a6 : an (P 6) = 8 := a6
  have o0 := hO.1
  induction d with
  | zero =>
    intro k u ai1 hl1 V post hk h0 G hu hpre L hp
    have g0 : ai1 (P 0) = ai (P 0) := G.o hNe (by decide) (by decide) (Or.inl (by decide))
    have g1 : ai1 (P 1) = ai (P 1) := G.o hNe (by decide) (by decide) (Or.inl (by decide))
    have g2 : ai1 (P 2) = ai (P 2) := G.o hNe (by decide) (by decide) (Or.inl (by decide))
    have g3 : ai1 (P 3) = ai (P 3) := G.o hNe (by decide) (by decide) (Or.inl (by decide))
    have ek : k = mX41_otherCount x := by omega
    rw [ek] at hpre
    have C := CQR_compare (ai := ai1) (mX41_hasLeast := hl1) (V := V) (post := post) D' n4 (by rw [g0]; exact hnm) (by rw [g1, g2, g3]; exact hO) hoc hpre (by rw [g0, g1, g2, g3]; exact L) (fun ai' hl' G2 L2 => hp ai' hl' (G.tr (G2.wd (by decide) (by decide))) (fun i i0 i1 => by rw [G2.o hNe (i := 6) (by decide) (by decide) (Or.inr (by decide))]) (by
      rw [g0, g1, g2, g3] at L2
      refine L2.cg (fun m => or_congr Iff.rfl ⟨fun h => ⟨⟨fun i i0 i1 => by rw [h i i0 i1]; exact hpre.1 i i0 i1, fun i j i0 ij j1 => by rw [h i i0 (by omega), h j (by omega) j1]; exact hpre.2 i j i0 ij j1⟩, fun i i0 i1 => h i i0 (by omega)⟩, fun h i i0 i1 => h.2 i i0 (by omega)⟩)))
    show wpQR_X41_name (0 + e + 1) post kd an ai1 mX41_first mX41_second mX41_names mX41_from mX41_to mX41_n mX41_codes mX41_least hl1 mX41_others mX41_otherCount mX41_named (some x) k u
    rw [wpQR_X41_name]
    exact kOn_some ⟨kx, fun _ => C, fun z => absurd ek z⟩
  | succ d IH =>
    intro k u ai1 hl1 V post hk h0 G hu hpre L hp
    rw [show d + 1 + e + 1 = (d + e + 1) + 1 by omega, wpQR_X41_name]
    refine kOn_some ⟨kx, fun z => by omega, fun _ => ?_⟩
    have loop : ∀ (j : Nat) (v : Int) (ai2 : Nat → Int → Int) (hl2 : Nat → Int), v + j = mX41_otherCount x → 0 ≤ v → qcG P 4 7 ai ai2 → (∀ i, 0 ≤ i → i < k → ai2 (P 6) i = ai1 (P 6) i) → qLq (mX41_first x) (mX41_second x) (aF (qAr (ai (P 0)) (ai (P 1)) (ai (P 2))) 0 (mX41_n x).toNat) (ai (P 3)) (fun m => V m ∨ (qEx (mX41_otherCount x) k (ai1 (P 6)) m ∧ m k < 2 + v)) (hl2 x) (aF (ai2 (P 5)) 0 (mX41_n x).toNat) → wQR_X41_name_15 (wpQR_X41_name (d + e + 1)) (fun (ai_32 : Nat → Int → Int) (m_33 : Nat → Int) => post ai_32 m_33) (some x) k u kd an mX41_first mX41_second mX41_names mX41_from mX41_to mX41_n mX41_codes mX41_least mX41_others mX41_otherCount mX41_named (j + 1) v ai2 hl2 := by
      intro j
      induction j with
      | zero =>
        intro v ai2 hl2 hv v0 G2 pr L2
        rw [wQR_X41_name_15]
        refine kOn_some ⟨kx, fun _ => hp _ _ G2 pr (L2.cg (fun m => or_congr Iff.rfl ⟨fun h => h.1, fun h => ⟨h, ?_⟩⟩)), fun z => by omega⟩
        have := h.1.1 k h0 (by omega)
        omega
      | succ j ih =>
        intro v ai2 hl2 hv v0 G2 pr L2
        rw [wQR_X41_name_15]
        refine kOn_some ⟨kx, fun z => by omega, fun z => ⟨by omega, fun b1 => ⟨by omega, fun v' ev => ?_⟩, fun b0 => ⟨by omega, fun w ew => kOn_of eM ⟨k6, by rw [a6]; omega, fun ai3 e3 => ⟨by omega, by omega, ?_⟩⟩⟩⟩⟩
        · rw [ev]
          obtain ⟨i, hi, ei⟩ := (mS_bit hu v0 (by omega)).1 b1
          refine ih _ _ _ (by omega) (by omega) G2 pr (L2.cg (fun m => or_congr Iff.rfl (and_congr_right (fun h => ⟨fun q => by omega, fun q => ?_⟩))))
          have ne := h.1.2 i k hi.1 hi.2 (by omega)
          rw [h.2 i hi.1 hi.2, ei] at ne
          omega
        · have nb : ¬ ∃ i, (0 ≤ i ∧ i < k) ∧ ai1 (P 6) i = 2 + v := fun h => b0 ((mS_bit hu v0 (by omega)).2 h)
          have r6 : ai3 (P 6) = updI (ai2 (P 6)) k (2 + v) := by rw [e3, va_up_self, ew]
          have r5 : ai3 (P 5) = ai2 (P 5) := by rw [e3, va_up_ne _ _ (hNe 5 6 (by decide) (by decide) (by decide))]
          have pr3 : ∀ i, 0 ≤ i → i < k → ai3 (P 6) i = ai1 (P 6) i := fun i i0 i1 => by rw [r6, updI_n (by omega)]; exact pr i i0 i1
          have at3 : ai3 (P 6) k = 2 + v := by rw [r6, updI_s]
          refine IH (k + 1) _ ai3 hl2 _ _ (by omega) (by omega) (by rw [e3]; exact G2.tr (qcG.up (i := 6) (by decide) (by decide))) (mS_c (mS_or hu (mS_one (j := v) (by omega))) (fun q q0 q1 => ?_)) ⟨fun i i0 i1 => ?_, fun i j' i0 ij j1 => ?_⟩ (by rw [r5]; exact L2) (fun ai4 hl4 G4 pr4 L4 => ⟨by omega, fun v' ev => ?_⟩)
          · constructor
            · rintro (⟨i, hi, ei⟩ | ei)
              · exact ⟨i, by omega, by rw [pr3 i hi.1 hi.2]; exact ei⟩
              · exact ⟨k, by omega, by rw [at3, ei]⟩
            · rintro ⟨i, hi, ei⟩
              by_cases y : i = k
              · rw [y, at3] at ei
                exact Or.inr (by omega)
              · rw [pr3 i hi.1 (by omega)] at ei
                exact Or.inl ⟨i, by omega, ei⟩
          · by_cases y : i = k
            · rw [y, at3]; omega
            · rw [pr3 i i0 (by omega)]; exact hpre.1 i i0 (by omega)
          · by_cases y : j' = k
            · rw [y, at3, pr3 i i0 (by omega)]
              exact fun q => nb ⟨i, ⟨i0, by omega⟩, q⟩
            · rw [pr3 i i0 (by omega), pr3 j' (by omega) (by omega)]
              exact hpre.2 i j' i0 ij (by omega)
          · rw [ev]
            refine ih _ _ _ (by omega) (by omega) G4 (fun i i0 i1 => by rw [pr4 i i0 (by omega), pr3 i i0 i1]) (L4.cg (fun m => ?_))
            constructor
            · rintro ((h | ⟨h, q⟩) | h)
              · exact Or.inl h
              · exact Or.inr ⟨h, by omega⟩
              · refine Or.inr ⟨⟨h.1, fun i i0 i1 => by rw [h.2 i i0 (by omega), pr3 i i0 i1]⟩, ?_⟩
                rw [h.2 k h0 (by omega), at3]; omega
            · rintro (h | ⟨h, q⟩)
              · exact Or.inl (Or.inl h)
              · by_cases y : m k < 2 + v
                · exact Or.inl (Or.inr ⟨h, y⟩)
                · refine Or.inr ⟨h.1, fun i i0 i1 => ?_⟩
                  by_cases w : i = k
                  · rw [w, at3]; omega
                  · rw [pr3 i i0 (by omega)]; exact h.2 i i0 (by omega)
    exact ⟨_, loop (mX41_otherCount x).toNat 0 ai1 hl1 (by omega) (by omega) G (fun _ _ _ => rfl) (L.cg (fun m => ⟨Or.inl, fun h => h.elim id (fun h => by
      have := h.1.1.1 k h0 (by omega)
      omega)⟩))⟩
/-- the draft comes to the name that only equal forms have -/
theorem CQR_settle {post : (Nat → Int → Int) → (Nat → Int) → (Nat → Int) → (Nat → Int) → (Nat → Int) → (Nat → Int) → Prop} (D : qcD kd an mX41_names mX41_from mX41_to mX41_others mX41_codes mX41_least mX41_named x P) (n4 : 1 ≤ mX41_n x ∧ mX41_n x ≤ 4) (hg : ∀ k, 0 ≤ k → k < mX41_n x → qGa (ai (P 0) k, ai (P 1) k, ai (P 2) k)) (hl : (aF (qAr (ai (P 0)) (ai (P 1)) (ai (P 2))) 0 (mX41_n x).toNat) = l) (hp : ∀ ai' fi' se' n' hl' oc', qcG P 0 7 ai ai' → (1 ≤ n' x ∧ n' x ≤ 4) → aF (ai' (P 5)) 0 (n' x).toNat = qFN (mX41_first x) (mX41_second x) l → (∀ u ∈ qFN (mX41_first x) (mX41_second x) l, qGc u) → fi' x = qOn (mX41_first x) → se' x = qTw (mX41_first x) (mX41_second x) → post ai' fi' se' n' hl' oc') : wpQR_X41_settle post kd an ai mX41_first mX41_second mX41_names mX41_from mX41_to mX41_n mX41_codes mX41_least mX41_hasLeast mX41_others mX41_otherCount mX41_named x := by
  have D' := D
  obtain ⟨kx, ⟨eN, eF, eT, eO, eC, eL, eM⟩, hKd, hNe⟩ := D
  obtain ⟨k0, a0⟩ := hKd 0 (by decide)
  obtain ⟨k1, a1⟩ := hKd 1 (by decide)
  obtain ⟨k2, a2⟩ := hKd 2 (by decide)
  obtain ⟨k3, a3⟩ := hKd 3 (by decide)
  obtain ⟨k4, a4⟩ := hKd 4 (by decide)
  obtain ⟨k5, a5⟩ := hKd 5 (by decide)
  obtain ⟨k6, a6⟩ := hKd 6 (by decide)
  have a0 : an (P 0) = 4 := a0
  have a1 : an (P 1) = 4 := a1
  have a2 : an (P 2) = 4 := a2
  have a3 : an (P 3) = 8 := a3
  have a4 : an (P 4) = 4 := a4
  have a5 : an (P 5) = 4 := a5
  have a6 : an (P 6) = 8 := a6
  unfold wpQR_X41_settle
  refine CQR_s2 D' ⟨by omega, n4.2⟩ (fun ai1 n1 G1 T oc1 eo1 => ?_)
  have T' := T
  obtain ⟨hn1, ⟨kk, Vv, N1, N2, N3⟩, nd⟩ := T
  have hg1 : ∀ k, 0 ≤ k → k < n1 x → qGa (ai1 (P 0) k, ai1 (P 1) k, ai1 (P 2) k) := fun k k0 k1 => by
    obtain ⟨s, ⟨j, hj, rfl⟩, e⟩ := (N3 (ai1 (P 0) k, ai1 (P 1) k, ai1 (P 2) k)).1 ⟨k, ⟨k0, k1⟩, rfl⟩
    rw [e]; exact qGa_s (qRe_7 kk Vv N1) (hg j hj.1 hj.2)
  refine CQR_s36 (mX41_n := n1) (mX41_otherCount := oc1) D' hn1 (by rw [eo1, va_up_self]) (fun ai2 oc2 G2 O2 h8 hl2 eh2 => ?_)
  have g0 : ai2 (P 0) = ai1 (P 0) := G2.o hNe (by decide) (by decide) (Or.inl (by decide))
  have g1 : ai2 (P 1) = ai1 (P 1) := G2.o hNe (by decide) (by decide) (Or.inl (by decide))
  have g2 : ai2 (P 2) = ai1 (P 2) := G2.o hNe (by decide) (by decide) (Or.inl (by decide))
  have few := T'.few O2
  have hOp := O2
  rw [← g1, ← g2] at hOp
  have hx2 : hl2 x = 0 := by rw [eh2, va_up_self]
  have o0 := hOp.1
  obtain ⟨e, he⟩ : ∃ e : Nat, 20 = (oc2 x).toNat + e + 1 := ⟨19 - (oc2 x).toNat, by omega⟩
  rw [he]
  refine CQR_name (ai := ai2) (mX41_n := n1) (mX41_otherCount := oc2) D' hn1 (fun k k0 k1 => by rw [g0]; exact qGa_n (hg1 k k0 k1)) hOp (by omega) (oc2 x).toNat 0 0 ai2 hl2 (fun _ => False) _ (by omega) (by omega) qcG.refl (mS_c mS_0 (fun q _ _ => ⟨fun h => h.elim, fun ⟨i, h, _⟩ => by omega⟩)) ⟨fun i a b => by omega, fun i j a b c => by omega⟩ (Or.inl ⟨hx2, fun _ h => h⟩) (fun ai3 hl3 G3 _ L3 => ?_)
  have hO' : qOo (ai2 (P 3)) (oc2 x) (qOc (mX41_first x) (mX41_second x) (aF (qAr (ai2 (P 0)) (ai2 (P 1)) (ai2 (P 2))) 0 (n1 x).toNat)) := hOp.cg (fun v => qOc_a.symm)
  have L4 := L3.cg (W := qPm (oc2 x)) (fun m => ⟨fun h => h.elim (fun w => w.elim) (fun w => w.1), fun h => Or.inr ⟨h, fun i a b => by omega⟩⟩)
  have ls := L4.ls hO' (by omega)
  have mA : ∀ (f g h : Int → Int) (q : Int) (t : qA), t ∈ aF (qAr f g h) 0 q.toNat ↔ qAt f g h q t := fun f g h q t => by
    rw [aF_mem]
    exact ⟨fun ⟨i, hi, e⟩ => ⟨i, by omega, e⟩, fun ⟨i, hi, e⟩ => ⟨i, by omega, e⟩⟩
  have fm : qFm (mX41_first x) (mX41_second x) l (aF (ai3 (P 5)) 0 (n1 x).toNat) := by
    refine ⟨aF (qAr (ai2 (P 0)) (ai2 (P 1)) (ai2 (P 2))) 0 (n1 x).toNat, ?_, ?_, ls⟩
    · rw [g0, g1, g2]; exact aF_pw _ _ (fun i j i0 ij j1 => nd j i i0 ij (by omega))
    · have e1 : (fun t => t ∈ l) = qAt (ai (P 0)) (ai (P 1)) (ai (P 2)) (mX41_n x) := funext fun t => propext (by rw [← hl]; exact mA _ _ _ _ t)
      have e2 : (fun t => t ∈ aF (qAr (ai2 (P 0)) (ai2 (P 1)) (ai2 (P 2))) 0 (n1 x).toNat) = qAt (ai1 (P 0)) (ai1 (P 1)) (ai1 (P 2)) (n1 x) := funext fun t => propext (by rw [g0, g1, g2]; exact mA _ _ _ _ t)
      rw [e1, e2]
      exact ⟨kk, Vv, N1, N2, N3⟩
  have eq := qFN_e fm
  have gd : ∀ u ∈ qFN (mX41_first x) (mX41_second x) l, qGc u := by
    rw [eq]
    rcases L4 with ⟨_, no⟩ | ⟨_, ⟨m, hm, ur⟩, _⟩
    · exact absurd ⟨fun i i0 i1 => by show 2 ≤ 2 + i ∧ 2 + i < 2 + oc2 x; omega, fun i j i0 ij j1 e => by have e' : 2 + i = 2 + j := e; omega⟩ (no (fun i => 2 + i))
    · have ur2 : qRow (mX41_first x) (mX41_second x) (aF (qAr (ai2 (P 0)) (ai2 (P 1)) (ai2 (P 2))) 0 (n1 x).toNat) (fun v => if 2 ≤ qRn (ai2 (P 3)) m v ∧ qRn (ai2 (P 3)) m v ≤ 5 then qRn (ai2 (P 3)) m v else 2) (aF (ai3 (P 5)) 0 (n1 x).toNat) := by
        have e3 : (aF (qAr (ai2 (P 0)) (ai2 (P 1)) (ai2 (P 2))) 0 (n1 x).toNat).map (qCd (mX41_first x) (mX41_second x) (fun v => if 2 ≤ qRn (ai2 (P 3)) m v ∧ qRn (ai2 (P 3)) m v ≤ 5 then qRn (ai2 (P 3)) m v else 2)) = (aF (qAr (ai2 (P 0)) (ai2 (P 1)) (ai2 (P 2))) 0 (n1 x).toNat).map (qCd (mX41_first x) (mX41_second x) (qRn (ai2 (P 3)) m)) := qCd_c (fun v hv => by
          obtain ⟨j, hj, rfl⟩ := (hO'.2.1 v).2 hv
          have := hm.1 j hj.1 hj.2
          rw [qRn_at hO' (by omega) hj.1 hj.2, if_pos (by omega)])
        unfold qRow at ur ⊢
        rw [e3]; exact ur
      exact qRow_g ur2 (fun t ht => by
        obtain ⟨k, hk, e⟩ := (aF_mem _ _).1 ht
        rw [e, g0, g1, g2]; exact hg1 k hk.1 (by omega)) (fun v => by
        split <;> omega)
  have ne := qFm_ne fm ⟨(ai (P 0) 0, ai (P 1) 0, ai (P 2) 0), by rw [← hl]; exact (mA _ _ _ _ _).2 ⟨0, by omega, rfl⟩⟩
  rw [aF_len] at ne
  have GG : qcG P 0 7 ai ai3 := ((G1.wd (by decide) (by decide)).tr (G2.wd (by decide) (by decide))).tr (G3.wd (by decide) (by decide))
  have go : ∀ fi' se', fi' x = qOn (mX41_first x) → se' x = qTw (mX41_first x) (mX41_second x) → post ai3 fi' se' n1 hl3 oc2 := fun fi' se' h1 h2 => hp _ _ _ _ _ _ GG ⟨by omega, hn1.2⟩ eq.symm gd h1 h2
  have p1 : 0 ≤ mX41_first x → (0 : Int) = qOn (mX41_first x) := fun h => by unfold qOn; rw [if_neg (by omega)]
  have p2 : ¬ 0 ≤ mX41_first x → (-1 : Int) = qOn (mX41_first x) := fun h => by unfold qOn; rw [if_pos (by omega)]
  refine ⟨fun z => ⟨fun q s es => ⟨fun y f ef => go _ _ ?_ ?_, fun y f ef => go _ _ ?_ ?_⟩, fun q s es => ⟨fun y f ef => go _ _ ?_ ?_, fun y f ef => go _ _ ?_ ?_⟩⟩, fun z s es => ⟨fun y f ef => go _ _ ?_ ?_, fun y f ef => go _ _ ?_ ?_⟩⟩
  · rw [ef, va_up_self]; exact p1 y
  · rw [es, va_up_self]; unfold qTw; rw [if_neg (by omega), if_pos q]
  · rw [ef, va_up_self]; exact p2 y
  · rw [es, va_up_self]; unfold qTw; rw [if_neg (by omega), if_pos q]
  · rw [ef, va_up_self]; exact p1 y
  · rw [es, va_up_self]; unfold qTw; rw [if_neg (by omega), if_neg q]
  · rw [ef, va_up_self]; exact p2 y
  · rw [es, va_up_self]; unfold qTw; rw [if_neg (by omega), if_neg q]
  · rw [ef, va_up_self]; exact p1 y
  · rw [es, va_up_self]; unfold qTw; rw [if_pos (by omega)]
  · rw [ef, va_up_self]; exact p2 y
  · rw [es, va_up_self]; unfold qTw; rw [if_pos (by omega)]
end
