/-! QlRewrite (room QR): an axiom put to an atom, two atoms united -/
section
variable {kd : Nat → Nat} {an : Nat → Nat} {ai : Nat → Int → Int} {al : Nat → Int → Int} {ar : Nat → Int → Option Nat} {mX40_kinds : Nat → Option Nat} {mX40_lefts : Nat → Option Nat} {mX40_rights : Nat → Option Nat} {mX40_axioms : Nat → Int} {mX40_classFacts : Nat → Option Nat} {mX40_roleFacts : Nat → Option Nat} {mX40_facts : Nat → Int} {mX40_draft : Nat → Option Nat} {mX40_questions : Nat → Option Nat} {mX40_questionCount : Nat → Int} {mX40_forbidden : Nat → Option Nat} {mX40_given : Nat → Option Nat} {mX41_first : Nat → Int} {mX41_second : Nat → Int} {mX41_names : Nat → Option Nat} {mX41_from : Nat → Option Nat} {mX41_to : Nat → Option Nat} {mX41_n : Nat → Int} {mX41_codes : Nat → Option Nat} {mX41_least : Nat → Option Nat} {mX41_hasLeast : Nat → Int} {mX41_others : Nat → Option Nat} {mX41_otherCount : Nat → Int} {mX41_named : Nat → Option Nat} {mX62_answers : Nat → Int} {mX62_names : Nat → Option Nat} {mX62_from : Nat → Option Nat} {mX62_to : Nat → Option Nat} {mX62_n : Nat → Int} {mX62_forms : Nat → Option Nat} {mX62_count : Nat → Int} {mX62_large : Nat → Int} {mX62_known : Nat → Int} {mX85_first : Nat → Int} {mX85_second : Nat → Int} {mX85_codes : Nat → Option Nat} {A : Nat → Int → Nat} {G : Nat → Nat × Int} {nq nF na nf nQ : Int} {FF : Int → qFo} {qa qk kf lf rt cf rf sq sf ow : Int → Int} {ql : Int → List qA} {qS : Int → qSS} {j n k v oc i a b o f y r pl fl : Int} {l : List qA} {S : qSS} {MC MS : Nat} {F : qFo}
theorem CQR_keepA {post : (Nat → Nat) → (Nat → Nat) → (Nat → Int → Int) → (Nat → Int → Option Nat) → (Nat → Int) → (Nat → Int) → (Nat → Int) → (Nat → Int) → (Nat → Int) → (Nat → Int) → (Nat → Int) → (Nat → Int) → (Nat → Int) → (Nat → Option Nat) → Prop} (ea : mX41_first (A 1 0) = a) (eb : mX41_second (A 1 0) = b) (H : qcR kd an ai al ar mX40_kinds mX40_lefts mX40_rights mX40_axioms mX40_classFacts mX40_roleFacts mX40_facts mX40_draft mX40_questions mX40_questionCount mX40_forbidden mX40_given mX41_first mX41_second mX41_names mX41_from mX41_to mX41_n mX41_codes mX41_least mX41_hasLeast mX41_others mX41_otherCount mX41_named mX62_answers mX62_names mX62_from mX62_to mX62_n mX62_forms mX62_count mX62_large mX62_known mX85_first mX85_second mX85_codes A G nq nF FF qa ql qS qk kf lf rt na cf rf nf nQ sq sf ow) (hj : 0 ≤ j ∧ j < nq) (n4 : 1 ≤ mX41_n (A 1 0) ∧ mX41_n (A 1 0) ≤ 4) (hg : ∀ k, 0 ≤ k → k < mX41_n (A 1 0) → qGa (qAr (ai (qcP A 0)) (ai (qcP A 1)) (ai (qcP A 2)) k)) (hl : aF (qAr (ai (qcP A 0)) (ai (qcP A 1)) (ai (qcP A 2))) 0 (mX41_n (A 1 0)).toNat = l) (bC : 2 * ((qFin a b l (qS j)).1.length - (qS j).1.length) ≤ MC) (bS : 7 * ((qFin a b l (qS j)).1.length - (qS j).1.length) ≤ MS)
  (hp : ∀ kd' an' ai' ar' fi' se' n' hl' oc' qc' qlg' f1' f2' cd' A' G' nF' FF', qcM A A' nq nF nF' FF FF' → qcR (kd') (an') (ai') al (ar') mX40_kinds mX40_lefts mX40_rights mX40_axioms mX40_classFacts mX40_roleFacts mX40_facts mX40_draft mX40_questions mX40_questionCount mX40_forbidden mX40_given (fi') (se') mX41_names mX41_from mX41_to (n') mX41_codes mX41_least (hl') mX41_others (oc') mX41_named mX62_answers mX62_names mX62_from mX62_to mX62_n mX62_forms (qc') (qlg') mX62_known (f1') (f2') (cd') A' G' nq nF' FF' qa ql (updI qS j (qFin a b l (qS j))) qk kf lf rt na cf rf nf nQ sq sf ow → post kd' an' ai' ar' fi' se' n' hl' oc' qc' qlg' f1' f2' cd') : wpQR_X40_keep MC MS post kd an ai ar mX40_draft mX41_first mX41_second mX41_names mX41_from mX41_to mX41_n mX41_codes mX41_least mX41_hasLeast mX41_others mX41_otherCount mX41_named mX62_forms mX62_count mX62_large mX85_first mX85_second mX85_codes (A 0 0) (some (A 9 j)) := by
  subst ea
  subst eb
  exact CQR_keep H hj n4 hg hl bC bS hp
theorem qcFo.at {an : Nat → Nat} {ai : Nat → Int → Int} {f1 f2 : Nat → Int} {cd : Nat → Option Nat} (h : qcFo an ai f1 f2 cd A r F) : (F.2.2.length : Int) = (an (A 13 r) : Int) ∧ ∀ k, 0 ≤ k → k < (an (A 13 r) : Int) → qDe (ai (A 13 r) k) = qAk F k ∧ qGa (qAk F k) := by
  obtain ⟨_, _, h3, h4, _⟩ := h
  refine ⟨by rw [← h3, aF_len], fun k k0 k1 => ?_⟩
  have e : F.2.2.getD k.toNat 0 = ai (A 13 r) k := by
    rw [← h3, aF_get _ _ _ (by omega), show (0 : Int) + (k.toNat : Int) = k by omega]
  have m : F.2.2.getD k.toNat 0 ∈ F.2.2 := gD_mem (by rw [← h3, aF_len]; omega)
  unfold qAk
  rw [e]
  rw [e] at m
  exact ⟨rfl, (h4 _ m).2⟩
/-- the sort at k is rewritten, if it fits -/
theorem CQR_a231 {post : (Nat → Nat) → (Nat → Nat) → (Nat → Int → Int) → (Nat → Int → Option Nat) → (Nat → Int) → (Nat → Int) → (Nat → Int) → (Nat → Int) → (Nat → Int) → (Nat → Int) → (Nat → Int) → (Nat → Int) → (Nat → Int) → (Nat → Option Nat) → Prop} (H : qcR kd an ai al ar mX40_kinds mX40_lefts mX40_rights mX40_axioms mX40_classFacts mX40_roleFacts mX40_facts mX40_draft mX40_questions mX40_questionCount mX40_forbidden mX40_given mX41_first mX41_second mX41_names mX41_from mX41_to mX41_n mX41_codes mX41_least mX41_hasLeast mX41_others mX41_otherCount mX41_named mX62_answers mX62_names mX62_from mX62_to mX62_n mX62_forms mX62_count mX62_large mX62_known mX85_first mX85_second mX85_codes A G nq nF FF qa ql qS qk kf lf rt na cf rf nf nQ sq sf ow) (hj : 0 ≤ j ∧ j < nq) (n4 : 1 ≤ mX41_n (A 1 0) ∧ mX41_n (A 1 0) ≤ 4) (hT : ∀ i, 0 ≤ i → i < mX41_n (A 1 0) → qAr (ai (qcP A 0)) (ai (qcP A 1)) (ai (qcP A 2)) i = qAk F i ∧ qGa (qAk F i)) (hlen : (F.2.2.length : Int) = mX41_n (A 1 0)) (ea : mX41_first (A 1 0) = F.1) (eb : mX41_second (A 1 0) = F.2.1) (hk : 0 ≤ k ∧ k < mX41_n (A 1 0)) (hy : 0 ≤ y ∧ y < na) (hL : qSo (lf y)) (hR : qSo (rt y)) (n7 : ¬ qWh (rt y) (qAk F k) = 7) (f0 : fl = 0 → qWh (rt y) (qAk F k) < 0) (f1 : ¬ fl = 0 → 0 ≤ qWh (rt y) (qAk F k) ∧ qWh (rt y) (qAk F k) = if ¬ pl = 0 ∨ rt y % 2 = 0 then (qAk F k).2.1 else (qAk F k).2.2) (bC : 2 * ((if qWh (rt y) (qAk F k) < 0 then qS j else qFin F.1 F.2.1 (aF (updI (qAk F) k (qSr (lf y) (qWh (rt y) (qAk F k)))) 0 F.2.2.length) (qS j)).1.length - (qS j).1.length) ≤ MC) (bS : 7 * ((if qWh (rt y) (qAk F k) < 0 then qS j else qFin F.1 F.2.1 (aF (updI (qAk F) k (qSr (lf y) (qWh (rt y) (qAk F k)))) 0 F.2.2.length) (qS j)).1.length - (qS j).1.length) ≤ MS)
  (hp : ∀ kd' an' ai' ar' fi' se' n' hl' oc' qc' qlg' f1' f2' cd' A' G' nF' FF', qcM A A' nq nF nF' FF FF' → qcR (kd') (an') (ai') al (ar') mX40_kinds mX40_lefts mX40_rights mX40_axioms mX40_classFacts mX40_roleFacts mX40_facts mX40_draft mX40_questions mX40_questionCount mX40_forbidden mX40_given (fi') (se') mX41_names mX41_from mX41_to (n') mX41_codes mX41_least (hl') mX41_others (oc') mX41_named mX62_answers mX62_names mX62_from mX62_to mX62_n mX62_forms (qc') (qlg') mX62_known (f1') (f2') (cd') A' G' nq nF' FF' qa ql (updI qS j (if qWh (rt y) (qAk F k) < 0 then qS j else qFin F.1 F.2.1 (aF (updI (qAk F) k (qSr (lf y) (qWh (rt y) (qAk F k)))) 0 F.2.2.length) (qS j))) qk kf lf rt na cf rf nf nQ sq sf ow → post kd' an' ai' ar' fi' se' n' hl' oc' qc' qlg' f1' f2' cd') : wQR_X40_apply_231 MC MS post (A 0 0) (some (A 9 j)) k y (rt y) pl fl kd an ai ar mX40_lefts mX40_draft mX41_first mX41_second mX41_names mX41_from mX41_to mX41_n mX41_codes mX41_least mX41_hasLeast mX41_others mX41_otherCount mX41_named mX62_forms mX62_count mX62_large mX85_first mX85_second mX85_codes 0 0 := by
  have H0 := H
  obtain ⟨⟨HL, q0, f0_⟩, Fl, D, HF, HQ, HX, HC, HS⟩ := H
  have D' := D
  obtain ⟨kx, ⟨eN, eF, eT, eO, eC, eL, eM⟩, hKd, hNe⟩ := D
  have k1 : kd (qcP A 1) = 5 := (hKd 1 (by decide)).1
  have a1 : an (qcP A 1) = 4 := (hKd 1 (by decide)).2
  have k2 : kd (qcP A 2) = 5 := (hKd 2 (by decide)).1
  have a2 : an (qcP A 2) = 4 := (hKd 2 (by decide)).2
  have eD : mX40_draft (A 0 0) = some (A 1 0) := Fl.2.2.1
  have eLf : mX40_lefts (A 0 0) = some (A 2 1) := Fl.1.2.1
  have kl : kd (A 2 1) = 5 := (HL 2 1 (by decide) (show (1 : Int) < 3 by decide)).2.1.1
  have al_ : an (A 2 1) = 16 := (HL 2 1 (by decide) (show (1 : Int) < 3 by decide)).2.2 (by decide)
  have vl : ai (A 2 1) y = lf y := (HX.2.2 y hy.1 hy.2).2.1
  have n16 : na ≤ 16 := HX.2.1.1.2
  unfold wQR_X40_apply_231
  refine ⟨fun z => ⟨by omega, by omega, hp _ _ _ _ _ _ _ _ _ _ _ _ _ _ A G nF FF qcM.refl ?_⟩, fun z => kOn_of eLf ⟨kl, by rw [al_]; omega, ?_⟩⟩
  · rw [if_pos (f0 z), updI_ia]; exact H0
  obtain ⟨w0, w1⟩ := f1 z
  rw [if_neg (by omega)] at bC bS hp
  rw [vl]
  have tk : ∀ i, 0 ≤ i → i < mX41_n (A 1 0) → qAr (ai (qcP A 0)) (ai (qcP A 1)) (ai (qcP A 2)) i = qAk F i := fun i i0 i1 => (hT i i0 i1).1
  have go : ∀ ai', qcG (qcP A) 0 3 ai ai' → (∀ i, qAr (ai' (qcP A 0)) (ai' (qcP A 1)) (ai' (qcP A 2)) i = if i = k then qSr (lf y) (qWh (rt y) (qAk F k)) else qAr (ai (qcP A 0)) (ai (qcP A 1)) (ai (qcP A 2)) i) → wpQR_X40_keep MC MS (fun kd' an' ai' ar' fi' se' n' hl' oc' qc' qlg' f1' f2' cd' => kLe kd an kd' an' → (((0 + MC) ≤ MC ∧ (0 + MS) ≤ MS ∧ post kd' an' ai' ar' fi' se' n' hl' oc' qc' qlg' f1' f2' cd'))) kd an (ai') ar mX40_draft mX41_first mX41_second mX41_names mX41_from mX41_to mX41_n mX41_codes mX41_least mX41_hasLeast mX41_others mX41_otherCount mX41_named mX62_forms mX62_count mX62_large mX85_first mX85_second mX85_codes (A 0 0) (some (A 9 j)) := fun ai2 G2 h2 => by
    refine CQR_keepA (l := aF (updI (qAk F) k (qSr (lf y) (qWh (rt y) (qAk F k)))) 0 F.2.2.length) ea eb (qcR.dr H0 (G2.wd (by decide) (by decide))) hj n4 (fun i i0 i1 => ?_) (aF_u hk (by omega) (fun i i0 i1 ne => ?_) ?_) bC bS (fun kd' an' ai' ar' fi' se' n' hl' oc' qc' qlg' f1' f2' cd' A' G' nF' FF' M R' _ => ⟨by omega, by omega, hp _ _ _ _ _ _ _ _ _ _ _ _ _ _ A' G' nF' FF' M R'⟩)
    · rw [h2 i]
      by_cases w : i = k
      · rw [if_pos w]; exact qSr_g hL n7
      · rw [if_neg w, tk i i0 i1]; exact (hT i i0 i1).2
    · rw [h2 i, if_neg ne]; exact tk i i0 i1
    · rw [h2 k, if_pos rfl]
  have e1 : ai (qcP A 1) k = (qAk F k).2.1 := congrArg (fun t : qA => t.2.1) (tk k hk.1 hk.2)
  have e2 : ai (qcP A 2) k = (qAk F k).2.2 := congrArg (fun t : qA => t.2.2) (tk k hk.1 hk.2)
  have sF : (¬ pl = 0 ∨ rt y % 2 = 0) → wpQR_X41_sort (fun (ai_105 : Nat → Int → Int) => ((∃ mc_121 ms_122 : Nat, (0 + mc_121 ≤ MC ∧ 0 + ms_122 ≤ MS) ∧ wpQR_X40_keep mc_121 ms_122 (fun kd' an' ai' ar' fi' se' n' hl' oc' qc' qlg' f1' f2' cd' => kLe kd an kd' an' → (((0 + mc_121) ≤ MC ∧ (0 + ms_122) ≤ MS ∧ post kd' an' ai' ar' fi' se' n' hl' oc' qc' qlg' f1' f2' cd'))) kd an ai_105 ar mX40_draft mX41_first mX41_second mX41_names mX41_from mX41_to mX41_n mX41_codes mX41_least mX41_hasLeast mX41_others mX41_otherCount mX41_named mX62_forms mX62_count mX62_large mX85_first mX85_second mX85_codes (A 0 0) (some (A 9 j))))) kd an ai mX41_names mX41_from mX41_to (A 1 0) k (lf y) (ai (qcP A 1) k) := fun q => by
    rw [if_pos q] at w1
    rw [e1, ← w1]
    exact CQR_sort D' (by omega) hL (fun ai2 G2 h2 => ⟨MC, MS, ⟨by omega, by omega⟩, go ai2 G2 h2⟩)
  refine ⟨fun p0 => ⟨fun ev => kOn_of eD ⟨kx, kOn_of eF ⟨k1, by rw [a1]; omega, ⟨by omega, by omega⟩, sF (Or.inr ev)⟩⟩, fun od => kOn_of eD ⟨kx, kOn_of eT ⟨k2, by rw [a2]; omega, ⟨by omega, by omega⟩, ?_⟩⟩⟩, fun p1 => kOn_of eD ⟨kx, kOn_of eF ⟨k1, by rw [a1]; omega, ⟨by omega, by omega⟩, sF (Or.inl p1)⟩⟩⟩
  rw [if_neg (fun q => q.elim (fun w => w p0) od)] at w1
  rw [e2, ← w1]
  exact CQR_sort D' (by omega) hL (fun ai2 G2 h2 => ⟨MC, MS, ⟨by omega, by omega⟩, go ai2 G2 h2⟩)
theorem CQR_apply {post : (Nat → Nat) → (Nat → Nat) → (Nat → Int → Int) → (Nat → Int → Option Nat) → (Nat → Int) → (Nat → Int) → (Nat → Int) → (Nat → Int) → (Nat → Int) → (Nat → Int) → (Nat → Int) → (Nat → Int) → (Nat → Int) → (Nat → Option Nat) → Prop} (H : qcR kd an ai al ar mX40_kinds mX40_lefts mX40_rights mX40_axioms mX40_classFacts mX40_roleFacts mX40_facts mX40_draft mX40_questions mX40_questionCount mX40_forbidden mX40_given mX41_first mX41_second mX41_names mX41_from mX41_to mX41_n mX41_codes mX41_least mX41_hasLeast mX41_others mX41_otherCount mX41_named mX62_answers mX62_names mX62_from mX62_to mX62_n mX62_forms mX62_count mX62_large mX62_known mX85_first mX85_second mX85_codes A G nq nF FF qa ql qS qk kf lf rt na cf rf nf nQ sq sf ow) (hj : 0 ≤ j ∧ j < nq) (hr : 0 ≤ r ∧ r < nF) (hk : 0 ≤ k ∧ k < ((FF r).2.2.length : Int)) (hy : 0 ≤ y ∧ y < na) (bC : 2 * ((qAx (kf y) (lf y) (rt y) (FF r) k (qS j)).1.length - (qS j).1.length) ≤ MC) (bS : 7 * ((qAx (kf y) (lf y) (rt y) (FF r) k (qS j)).1.length - (qS j).1.length) ≤ MS)
  (hp : ∀ kd' an' ai' ar' fi' se' n' hl' oc' qc' qlg' f1' f2' cd' A' G' nF' FF', qcM A A' nq nF nF' FF FF' → qcR (kd') (an') (ai') al (ar') mX40_kinds mX40_lefts mX40_rights mX40_axioms mX40_classFacts mX40_roleFacts mX40_facts mX40_draft mX40_questions mX40_questionCount mX40_forbidden mX40_given (fi') (se') mX41_names mX41_from mX41_to (n') mX41_codes mX41_least (hl') mX41_others (oc') mX41_named mX62_answers mX62_names mX62_from mX62_to mX62_n mX62_forms (qc') (qlg') mX62_known (f1') (f2') (cd') A' G' nq nF' FF' qa ql (updI qS j (qAx (kf y) (lf y) (rt y) (FF r) k (qS j))) qk kf lf rt na cf rf nf nQ sq sf ow → post kd' an' ai' ar' fi' se' n' hl' oc' qc' qlg' f1' f2' cd') : wpQR_X40_apply MC MS post kd an ai ar mX40_kinds mX40_lefts mX40_rights mX40_draft mX41_first mX41_second mX41_names mX41_from mX41_to mX41_n mX41_codes mX41_least mX41_hasLeast mX41_others mX41_otherCount mX41_named mX62_forms mX62_count mX62_large mX85_first mX85_second mX85_codes (A 0 0) (some (A 9 j)) (some (A 12 r)) k y := by
  have H0 := H
  obtain ⟨⟨HL, q0, f0_⟩, Fl, D, HF, HQ, HX, HC, HS⟩ := H
  have D' := D
  obtain ⟨kx, ⟨eN, eF, eT, eO, eC, eL, eM⟩, hKd, hNe⟩ := D
  have k0 : kd (qcP A 0) = 5 := (hKd 0 (by decide)).1
  have a0 : an (qcP A 0) = 4 := (hKd 0 (by decide)).2
  have k1 : kd (qcP A 1) = 5 := (hKd 1 (by decide)).1
  have a1 : an (qcP A 1) = 4 := (hKd 1 (by decide)).2
  have k2 : kd (qcP A 2) = 5 := (hKd 2 (by decide)).1
  have a2 : an (qcP A 2) = 4 := (hKd 2 (by decide)).2
  have eD : mX40_draft (A 0 0) = some (A 1 0) := Fl.2.2.1
  have k20 : kd (A 2 0) = 5 := (HL 2 0 (by decide) (show (0 : Int) < 3 by decide)).2.1.1
  have a20 : an (A 2 0) = 16 := (HL 2 0 (by decide) (show (0 : Int) < 3 by decide)).2.2 (by decide)
  have k21 : kd (A 2 1) = 5 := (HL 2 1 (by decide) (show (1 : Int) < 3 by decide)).2.1.1
  have a21 : an (A 2 1) = 16 := (HL 2 1 (by decide) (show (1 : Int) < 3 by decide)).2.2 (by decide)
  have k22 : kd (A 2 2) = 5 := (HL 2 2 (by decide) (show (2 : Int) < 3 by decide)).2.1.1
  have a22 : an (A 2 2) = 16 := (HL 2 2 (by decide) (show (2 : Int) < 3 by decide)).2.2 (by decide)
  have n16 : na ≤ 16 := HX.2.1.1.2
  obtain ⟨v0, v1, v2⟩ := HX.2.2 y hy.1 hy.2
  obtain ⟨kb, ke, ko⟩ := HX.2.1.2 y hy.1 hy.2
  obtain ⟨⟨p1, p2, p3⟩, p4, p5, p6⟩ := HF r hr.1 hr.2
  obtain ⟨len, hat⟩ := (HF r hr.1 hr.2).at
  have kc : kd (A 13 r) = 5 := (HL 13 r hr.1 (show r < nF from hr.2)).2.1.1
  have kf_ : kd (A 12 r) = 4 := (HL 12 r hr.1 (show r < nF from hr.2)).2.1.1
  have o3 : ∀ (ai' : Nat → Int → Int), qcG (qcP A) 0 3 ai ai' → ∀ i t, i ≠ 5 → 0 ≤ t → t < qcLN nq nF i → ai' (A i t) = ai (A i t) := fun ai' g i t h5 t0 t1 => g _ (fun k _ hk => HL.ne ⟨t0, t1⟩ ⟨by omega, show (k : Int) < 7 by omega⟩ (Or.inl h5))
  unfold wpQR_X40_apply
  refine kOn_of Fl.1.1 ⟨k20, by rw [a20]; omega, fun z => kOn_of eD ⟨kx, ⟨by omega, by omega⟩, CQR_take D' kf_ p3 kc p4 (fun i hi => HL.ne ⟨hr.1, show r < nF from hr.2⟩ ⟨by omega, show (i : Int) < 7 by omega⟩ (Or.inl (by decide))) (fun ai1 fi1 se1 n1 G1 e1 e2 e3 hJ => kOn_of eN ⟨k0, by rw [a0]; omega, fun u eu => kOn_of Fl.1.2.2 ⟨k22, by rw [a22]; omega, fun w ew => ?_⟩⟩)⟩, fun z => ⟨by omega, by omega, hp _ _ _ _ _ _ _ _ _ _ _ _ _ _ A G nF FF qcM.refl ?_⟩⟩
  · have R1 := qcR.dr (mX41_first' := fi1) (mX41_second' := se1) (mX41_n' := n1) (mX41_hasLeast' := mX41_hasLeast) (mX41_otherCount' := mX41_otherCount) H0 (G1.wd (by decide) (by decide))
    have tk : ∀ i, 0 ≤ i → i < n1 (A 1 0) → qAr (ai1 (qcP A 0)) (ai1 (qcP A 1)) (ai1 (qcP A 2)) i = qAk (FF r) i ∧ qGa (qAk (FF r) i) := fun i i0 i1 => ⟨(hJ i i0 (by omega)).trans (hat i i0 (by omega)).1, (hat i i0 (by omega)).2⟩
    have g20 : ai1 (A 2 0) = ai (A 2 0) := o3 ai1 G1 2 0 (by decide) (by decide) (show (0 : Int) < 3 by decide)
    have g21 : ai1 (A 2 1) = ai (A 2 1) := o3 ai1 G1 2 1 (by decide) (by decide) (show (1 : Int) < 3 by decide)
    have g22 : ai1 (A 2 2) = ai (A 2 2) := o3 ai1 G1 2 2 (by decide) (by decide) (show (2 : Int) < 3 by decide)
    rw [g22, v2] at ew
    rw [g20, v0]
    rw [v0] at z
    have tkk := (tk k hk.1 (by omega)).1
    have gkk := (tk k hk.1 (by omega)).2
    have eu' : u = (qAk (FF r) k).1 := eu.trans (congrArg (fun t : qA => t.1) tkk)
    have t1 : ai1 (qcP A 1) k = (qAk (FF r) k).2.1 := congrArg (fun t : qA => t.2.1) tkk
    have t2 : ai1 (qcP A 2) k = (qAk (FF r) k).2.2 := congrArg (fun t : qA => t.2.2) tkk
    have c1 : n1 (A 1 0) = ((FF r).2.2.length : Int) := by omega
    refine ⟨fun q1 => ⟨?_, fun q => kOn_of eF ⟨k1, by rw [a1]; omega, fun fv efv => kOn_of Fl.1.2.1 ⟨k21, by rw [a21]; omega, ?_⟩⟩, fun q => ⟨by omega, by omega, hp _ _ _ _ _ _ _ _ _ _ _ _ _ _ A G nF FF qcM.refl ?_⟩⟩, fun q0 => ?_⟩
    · have := ko (by omega); omega
    · have kk := ko (by omega)
      rw [g21, v1]
      rw [eu', ew] at q
      have eAx : qAx (kf y) (lf y) (rt y) (FF r) k (qS j) = qFin (FF r).1 (FF r).2.1 (aF (updI (qAk (FF r)) k (qWa (lf y) (rt y) (qAk (FF r) k))) 0 (FF r).2.2.length) (qS j) := by
        unfold qAx
        rw [if_neg (by omega), if_pos q1, if_pos q]
      rw [eAx] at bC bS hp
      have gw : qGa (qWa (lf y) (rt y) (qAk (FF r) k)) := qWa_g gkk kk.1 (by omega)
      refine ⟨by omega, fun nv env ai2 e2a => ?_⟩
      have g21b : ai2 (A 2 1) y = lf y := by
        rw [e2a, va_up_ne _ _ (show A 2 1 ≠ qcP A 0 from HL.ne (i := 2) (i' := 5) ⟨by decide, show (1 : Int) < 3 by decide⟩ ⟨by decide, show ((0 : Nat) : Int) < 7 by decide⟩ (Or.inl (by decide))), g21]; exact v1
      have n10 := hNe 1 0 (by decide) (by decide) (by decide)
      have n20 := hNe 2 0 (by decide) (by decide) (by decide)
      have n21 := hNe 2 1 (by decide) (by decide) (by decide)
      have n01 := hNe 0 1 (by decide) (by decide) (by decide)
      have n02 := hNe 0 2 (by decide) (by decide) (by decide)
      have n12 := hNe 1 2 (by decide) (by decide) (by decide)
      have r10 : ai2 (qcP A 0) = updI (ai1 (qcP A 0)) k nv := by rw [e2a, va_up_self]
      have r11 : ai2 (qcP A 1) = ai1 (qcP A 1) := by rw [e2a, va_up_ne _ _ n10]
      have r12 : ai2 (qcP A 2) = ai1 (qcP A 2) := by rw [e2a, va_up_ne _ _ n20]
      rw [g21b, ew]
      have od := zxor_odd (u := lf y) (v := rt y) (by omega) (by omega)
      have G2 : qcG (qcP A) 0 7 ai ai2 := by
        rw [e2a]
        exact (G1.wd (by decide) (by decide)).tr (qcG.up (i := 0) (by decide) (by decide))
      have fin : ∀ ai4, qcG (qcP A) 0 7 ai ai4 → (∀ i, 0 ≤ i → i < n1 (A 1 0) → qAr (ai4 (qcP A 0)) (ai4 (qcP A 1)) (ai4 (qcP A 2)) i = if i = k then qWa (lf y) (rt y) (qAk (FF r) k) else qAk (FF r) i) → wpQR_X40_keep MC MS (fun kd' an' ai' ar' fi' se' n' hl' oc' qc' qlg' f1' f2' cd' => kLe kd an kd' an' → (((0 + MC) ≤ MC ∧ (0 + MS) ≤ MS ∧ post kd' an' ai' ar' fi' se' n' hl' oc' qc' qlg' f1' f2' cd'))) kd an ai4 ar mX40_draft fi1 se1 mX41_names mX41_from mX41_to n1 mX41_codes mX41_least mX41_hasLeast mX41_others mX41_otherCount mX41_named mX62_forms mX62_count mX62_large mX85_first mX85_second mX85_codes (A 0 0) (some (A 9 j)) := fun ai4 G4 h4 => by
        refine CQR_keepA (l := aF (updI (qAk (FF r)) k (qWa (lf y) (rt y) (qAk (FF r) k))) 0 (FF r).2.2.length) (e1.trans p1) (e2.trans p2) (qcR.dr H0 G4) hj (by omega) (fun i i0 i1 => ?_) (aF_u (k := k) (n := n1 (A 1 0)) ⟨hk.1, by omega⟩ (by omega) (fun i i0 i1 ne => ?_) ?_) bC bS (fun kd' an' ai' ar' fi' se' n' hl' oc' qc' qlg' f1' f2' cd' A' G' nF' FF' M R' _ => ⟨by omega, by omega, hp _ _ _ _ _ _ _ _ _ _ _ _ _ _ A' G' nF' FF' M R'⟩)
        · rw [h4 i i0 i1]
          by_cases w : i = k
          · rw [if_pos w]; exact gw
          · rw [if_neg w]; exact (tk i i0 i1).2
        · rw [h4 i i0 i1, if_neg ne]
        · rw [h4 k hk.1 (by omega), if_pos rfl]
      refine ⟨fun pz => kOn_of eT ⟨k2, by rw [a2]; omega, fun tv etv ai3 e3a ai4 e4a => ⟨MC, MS, ⟨by omega, by omega⟩, fin ai4 ?_ (fun i i0 i1 => ?_)⟩⟩, fun pz => ⟨MC, MS, ⟨by omega, by omega⟩, fin ai2 G2 (fun i i0 i1 => ?_)⟩⟩
      · rw [e4a, e3a]
        exact (G2.tr (qcG.up (i := 1) (by decide) (by decide))).tr (qcG.up (i := 2) (by decide) (by decide))
      · have ne := od.1 pz
        have r0 : ai4 (qcP A 0) = updI (ai1 (qcP A 0)) k nv := by rw [e4a, va_up_ne _ _ n02, e3a, va_up_ne _ _ n01, r10]
        have r1 : ai4 (qcP A 1) = updI (ai1 (qcP A 1)) k tv := by rw [e4a, va_up_ne _ _ n12, e3a, va_up_self, r11]
        have r2 : ai4 (qcP A 2) = updI (ai1 (qcP A 2)) k fv := by rw [e4a, va_up_self, e3a, va_up_ne _ _ n21, r12]
        unfold qAr
        rw [r0, r1, r2, updI_e, updI_e, updI_e]
        by_cases w : i = k
        · rw [if_pos w, if_pos w, if_pos w, if_pos w]
          unfold qWa
          rw [if_neg ne, if_neg ne, env, etv, r12, t2, efv, t1]
        · rw [if_neg w, if_neg w, if_neg w, if_neg w]; exact (tk i i0 i1).1
      · have eq : lf y % 2 = rt y % 2 := Classical.byContradiction fun w => pz (od.2 w)
        unfold qAr
        rw [r10, r11, r12, updI_e]
        by_cases w : i = k
        · rw [if_pos w, if_pos w]
          unfold qWa
          rw [if_pos eq, if_pos eq, env, w, t1, t2]
        · rw [if_neg w, if_neg w]; exact (tk i i0 i1).1
    · rw [eu', ew] at q
      have eAx : qAx (kf y) (lf y) (rt y) (FF r) k (qS j) = qS j := by
        unfold qAx
        rw [if_neg (by omega), if_pos q1, if_neg q]
      rw [eAx, updI_ia]
      exact R1
    · have k00 : kf y = 0 := by omega
      obtain ⟨sL, sR⟩ := ke (by omega)
      have eAx : qAx (kf y) (lf y) (rt y) (FF r) k (qS j) = (if qWh (rt y) (qAk (FF r) k) < 0 then qS j else qFin (FF r).1 (FF r).2.1 (aF (updI (qAk (FF r)) k (qSr (lf y) (qWh (rt y) (qAk (FF r) k)))) 0 (FF r).2.2.length) (qS j)) := by
        unfold qAx
        rw [if_pos k00]
      rw [eAx] at bC bS hp
      have n7 := qWh_7 (R := rt y) gkk sR
      have st : ∀ pl fl : Int, (fl = 0 → qWh (rt y) (qAk (FF r) k) < 0) → (¬ fl = 0 → 0 ≤ qWh (rt y) (qAk (FF r) k) ∧ qWh (rt y) (qAk (FF r) k) = if ¬ pl = 0 ∨ rt y % 2 = 0 then (qAk (FF r) k).2.1 else (qAk (FF r) k).2.2) → wQR_X40_apply_231 MC MS post (A 0 0) (some (A 9 j)) k y (rt y) pl fl kd an ai1 ar mX40_lefts mX40_draft fi1 se1 mX41_names mX41_from mX41_to n1 mX41_codes mX41_least mX41_hasLeast mX41_others mX41_otherCount mX41_named mX62_forms mX62_count mX62_large mX85_first mX85_second mX85_codes 0 0 := fun pl fl h0 h1 => CQR_a231 (F := FF r) R1 hj (by omega) tk (by omega) (e1.trans p1) (e2.trans p2) ⟨hk.1, by omega⟩ hy sL sR n7 h0 h1 bC bS hp
      have nn : 0 ≤ (qAk (FF r) k).2.1 ∧ 0 ≤ (qAk (FF r) k).2.2 := by
        show 0 ≤ (FF r).2.2.getD k.toNat 0 / 8 % 8 ∧ 0 ≤ (FF r).2.2.getD k.toNat 0 % 8
        omega
      rw [ew, eu']
      unfold qSo at sR
      unfold qWh at st
      refine ⟨fun R20 => ?_, fun R20 => ?_⟩
      · rw [if_pos R20] at st
        unfold wQR_X40_apply_156
        refine ⟨fun _ => ⟨by omega, by omega, fun q => ?_, fun q => ?_⟩, fun w => absurd rfl w⟩
        · rw [if_pos q] at st
          refine ⟨fun ev => kOn_of eD ⟨kx, kOn_of eT ⟨k2, by rw [a2]; omega, fun y6 => st 0 1 (fun w => absurd w (by decide)) (fun _ => ?_), fun y6 => st 0 0 (fun _ => ?_) (fun w => absurd rfl w)⟩⟩, fun od => kOn_of eD ⟨kx, kOn_of eF ⟨k1, by rw [a1]; omega, fun y6 => st 0 1 (fun w => absurd w (by decide)) (fun _ => ?_), fun y6 => st 0 0 (fun _ => ?_) (fun w => absurd rfl w)⟩⟩⟩
          · rw [t2] at y6
            rw [if_pos ⟨ev, y6⟩, if_pos (Or.inr ev)]; exact ⟨nn.1, rfl⟩
          · rw [t2] at y6
            rw [if_neg (fun w => y6 w.2), if_neg (by omega)]; decide
          · rw [t1] at y6
            rw [if_neg (fun w => od w.1), if_pos ⟨by omega, y6⟩, if_neg (fun w => w.elim (fun g => g rfl) od)]; exact ⟨nn.2, rfl⟩
          · rw [t1] at y6
            rw [if_neg (fun w => od w.1), if_neg (fun w => y6 w.2)]; decide
        · rw [if_neg q] at st
          exact st 0 0 (fun _ => by decide) (fun w => absurd rfl w)
      · rw [if_neg R20] at st
        unfold wQR_X40_apply_156
        refine ⟨fun w => absurd w (by decide), fun _ => ⟨fun q => ?_, fun q => ?_⟩⟩
        · rw [if_pos q] at st
          exact st 1 1 (fun w => absurd w (by decide)) (fun _ => ⟨nn.1, by rw [if_pos (Or.inl (by decide))]⟩)
        · rw [if_neg q] at st
          exact st 1 0 (fun _ => by decide) (fun w => absurd rfl w)
  · rw [v0] at z
    have eAx : qAx (kf y) (lf y) (rt y) (FF r) k (qS j) = qS j := by
      unfold qAx
      rw [if_neg (by omega), if_neg (by omega)]
    rw [eAx, updI_ia]
    exact H0
theorem CQR_join {post : (Nat → Nat) → (Nat → Nat) → (Nat → Int → Int) → (Nat → Int → Option Nat) → (Nat → Int) → (Nat → Int) → (Nat → Int) → (Nat → Int) → (Nat → Int) → (Nat → Int) → (Nat → Int) → (Nat → Int) → (Nat → Int) → (Nat → Option Nat) → Prop} (H : qcR kd an ai al ar mX40_kinds mX40_lefts mX40_rights mX40_axioms mX40_classFacts mX40_roleFacts mX40_facts mX40_draft mX40_questions mX40_questionCount mX40_forbidden mX40_given mX41_first mX41_second mX41_names mX41_from mX41_to mX41_n mX41_codes mX41_least mX41_hasLeast mX41_others mX41_otherCount mX41_named mX62_answers mX62_names mX62_from mX62_to mX62_n mX62_forms mX62_count mX62_large mX62_known mX85_first mX85_second mX85_codes A G nq nF FF qa ql qS qk kf lf rt na cf rf nf nQ sq sf ow) (hj : 0 ≤ j ∧ j < nq) (hr : 0 ≤ r ∧ r < nF) (hk : 0 ≤ k ∧ k < ((FF r).2.2.length : Int)) (hy : 0 ≤ y ∧ y < ((FF r).2.2.length : Int)) (bC : 2 * ((qJn (FF r) k y (qS j)).1.length - (qS j).1.length) ≤ MC) (bS : 7 * ((qJn (FF r) k y (qS j)).1.length - (qS j).1.length) ≤ MS)
  (hp : ∀ kd' an' ai' ar' fi' se' n' hl' oc' qc' qlg' f1' f2' cd' A' G' nF' FF', qcM A A' nq nF nF' FF FF' → qcR (kd') (an') (ai') al (ar') mX40_kinds mX40_lefts mX40_rights mX40_axioms mX40_classFacts mX40_roleFacts mX40_facts mX40_draft mX40_questions mX40_questionCount mX40_forbidden mX40_given (fi') (se') mX41_names mX41_from mX41_to (n') mX41_codes mX41_least (hl') mX41_others (oc') mX41_named mX62_answers mX62_names mX62_from mX62_to mX62_n mX62_forms (qc') (qlg') mX62_known (f1') (f2') (cd') A' G' nq nF' FF' qa ql (updI qS j (qJn (FF r) k y (qS j))) qk kf lf rt na cf rf nf nQ sq sf ow → post kd' an' ai' ar' fi' se' n' hl' oc' qc' qlg' f1' f2' cd') : wpQR_X40_join MC MS post kd an ai ar mX40_draft mX41_first mX41_second mX41_names mX41_from mX41_to mX41_n mX41_codes mX41_least mX41_hasLeast mX41_others mX41_otherCount mX41_named mX62_forms mX62_count mX62_large mX85_first mX85_second mX85_codes (A 0 0) (some (A 9 j)) (some (A 12 r)) k y := by
  have H0 := H
  obtain ⟨⟨HL, q0, f0_⟩, Fl, D, HF, HQ, HX, HC, HS⟩ := H
  have D' := D
  obtain ⟨kx, ⟨eN, eF, eT, eO, eC, eL, eM⟩, hKd, hNe⟩ := D
  have k0 : kd (qcP A 0) = 5 := (hKd 0 (by decide)).1
  have a0 : an (qcP A 0) = 4 := (hKd 0 (by decide)).2
  have eD : mX40_draft (A 0 0) = some (A 1 0) := Fl.2.2.1
  obtain ⟨⟨p1, p2, p3⟩, p4, p5, p6⟩ := HF r hr.1 hr.2
  obtain ⟨len, hat⟩ := (HF r hr.1 hr.2).at
  have kc : kd (A 13 r) = 5 := (HL 13 r hr.1 (show r < nF from hr.2)).2.1.1
  have kf_ : kd (A 12 r) = 4 := (HL 12 r hr.1 (show r < nF from hr.2)).2.1.1
  unfold wpQR_X40_join
  refine kOn_of eD ⟨kx, ⟨by omega, by omega⟩, CQR_take D' kf_ p3 kc p4 (fun i hi => HL.ne ⟨hr.1, show r < nF from hr.2⟩ ⟨by omega, show (i : Int) < 7 by omega⟩ (Or.inl (by decide))) (fun ai1 fi1 se1 n1 G1 e1 e2 e3 hJ => kOn_of eN ⟨k0, by rw [a0]; omega, by rw [a0]; omega, fun q => ⟨⟨by omega, by omega⟩, ?_⟩, fun q => ⟨by omega, by omega, hp _ _ _ _ _ _ _ _ _ _ _ _ _ _ A G nF FF qcM.refl ?_⟩⟩)⟩
  · have c1 : n1 (A 1 0) = ((FF r).2.2.length : Int) := by omega
    have tk : ∀ i, 0 ≤ i → i < n1 (A 1 0) → qAr (ai1 (qcP A 0)) (ai1 (qcP A 1)) (ai1 (qcP A 2)) i = qAk (FF r) i ∧ qGa (qAk (FF r) i) := fun i i0 i1 => ⟨(hJ i i0 (by omega)).trans (hat i i0 (by omega)).1, (hat i i0 (by omega)).2⟩
    have n1b : 0 ≤ n1 (A 1 0) ∧ n1 (A 1 0) ≤ 4 := by omega
    have hk1 : 0 ≤ k ∧ k < n1 (A 1 0) := ⟨hk.1, by omega⟩
    have hy1 : 0 ≤ y ∧ y < n1 (A 1 0) := ⟨hy.1, by omega⟩
    have qn : (qAk (FF r) k).1 = (qAk (FF r) y).1 := by
      have e3 := congrArg (fun t : qA => t.1) (tk k hk1.1 hk1.2).1
      have e4 := congrArg (fun t : qA => t.1) (tk y hy1.1 hy1.2).1
      exact e3.symm.trans (q.trans e4)
    have eJ : qJn (FF r) k y (qS j) = qFin (qMT k y (qMF k y ((FF r).1, (FF r).2.1, qAk (FF r)))).1 (qMT k y (qMF k y ((FF r).1, (FF r).2.1, qAk (FF r)))).2.1 (aF (qMT k y (qMF k y ((FF r).1, (FF r).2.1, qAk (FF r)))).2.2 0 (FF r).2.2.length) (qS j) := by
      unfold qJn
      rw [if_pos qn]
    rw [eJ] at bC bS hp
    have D1 : qDr := ((fi1 (A 1 0)), (se1 (A 1 0)), qAr (ai1 (qcP A 0)) (ai1 (qcP A 1)) (ai1 (qcP A 2)))
    have mf := qMF_cg (n := n1 (A 1 0)) (D := (fi1 (A 1 0), se1 (A 1 0), qAr (ai1 (qcP A 0)) (ai1 (qcP A 1)) (ai1 (qcP A 2)))) (E := ((FF r).1, (FF r).2.1, qAk (FF r))) hk1 hy1 (e1.trans p1) (e2.trans p2) (fun i i0 i1 => (tk i i0 i1).1)
    have gm := qGa_MF (n := n1 (A 1 0)) (D := ((FF r).1, (FF r).2.1, qAk (FF r))) hk1 hy1 qn (fun i i0 i1 => (tk i i0 i1).2)
    have gt := qGa_MT (n := n1 (A 1 0)) (D := qMF k y ((FF r).1, (FF r).2.1, qAk (FF r))) hk1 hy1 ((gm.2 k hk1.1 hk1.2).trans (qn.trans (gm.2 y hy1.1 hy1.2).symm)) gm.1
    rw [eF]
    refine CQR_meet1 (mX41_n := n1) D' n1b hk1 hy1 (fun ai2 fi2 se2 G2 h1 h2 h3 => ⟨⟨by omega, by omega⟩, ?_⟩)
    rw [eT]
    refine CQR_meet2 (mX41_n := n1) D' n1b hk1 hy1 (fun ai3 fi3 se3 G3 h4 h5 h6 => ⟨MC, MS, ⟨by omega, by omega⟩, ?_⟩)
    have mt := qMT_cg (n := n1 (A 1 0)) (D := (fi2 (A 1 0), se2 (A 1 0), qAr (ai2 (qcP A 0)) (ai2 (qcP A 1)) (ai2 (qcP A 2)))) (E := qMF k y ((FF r).1, (FF r).2.1, qAk (FF r))) hk1 hy1 (h1.trans mf.1) (h2.trans mf.2.1) (fun i i0 i1 => (h3 i i0 i1).trans (mf.2.2 i i0 i1))
    refine CQR_keepA (h4.trans mt.1) (h5.trans mt.2.1) (qcR.dr H0 (((G1.tr G2).tr G3).wd (by decide) (by decide))) hj (by omega) (fun i i0 i1 => ?_) ?_ bC bS (fun kd' an' ai' ar' fi' se' n' hl' oc' qc' qlg' f1' f2' cd' A' G' nF' FF' M R' _ => ⟨by omega, by omega, hp _ _ _ _ _ _ _ _ _ _ _ _ _ _ A' G' nF' FF' M R'⟩)
    · rw [h6 i i0 i1, mt.2.2 i i0 i1]; exact gt i i0 i1
    · rw [c1, show ((FF r).2.2.length : Int).toNat = (FF r).2.2.length by omega]
      exact aF_c _ _ (fun i i0 i1 => (h6 i i0 (by omega)).trans (mt.2.2 i i0 (by omega)))
  · have c1 : n1 (A 1 0) = ((FF r).2.2.length : Int) := by omega
    have qn : ¬ (qAk (FF r) k).1 = (qAk (FF r) y).1 := fun w => q (by
      have e3 := congrArg (fun t : qA => t.1) ((hJ k hk.1 (by omega)).trans (hat k hk.1 (by omega)).1)
      have e4 := congrArg (fun t : qA => t.1) ((hJ y hy.1 (by omega)).trans (hat y hy.1 (by omega)).1)
      exact e3.trans (w.trans e4.symm))
    have eJ : qJn (FF r) k y (qS j) = qS j := by
      unfold qJn
      rw [if_neg qn]
    rw [eJ, updI_ia]
    exact qcR.dr H0 (G1.wd (by decide) (by decide))
end
