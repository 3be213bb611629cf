/-! QlRewrite (room QR): a question's forms are made -/
noncomputable def qcZ (kf lf rt : Int → Int) (na an : Int) (l : List qA) : qSS := qZ kf lf rt na 91 0 (qFin (if an ≤ 0 then -1 else 8) (if an ≤ 1 then -1 else 9) l ([], 0))
section
variable {kd : Nat → Nat} {an : Nat → Nat} {ai : Nat → Int → Int} {al : Nat → Int → Int} {ar : Nat → Int → Option Nat} {mX40_kinds : Nat → Option Nat} {mX40_lefts : Nat → Option Nat} {mX40_rights : Nat → Option Nat} {mX40_axioms : Nat → Int} {mX40_classFacts : Nat → Option Nat} {mX40_roleFacts : Nat → Option Nat} {mX40_facts : Nat → Int} {mX40_draft : Nat → Option Nat} {mX40_questions : Nat → Option Nat} {mX40_questionCount : Nat → Int} {mX40_forbidden : Nat → Option Nat} {mX40_given : Nat → Option Nat} {mX41_first : Nat → Int} {mX41_second : Nat → Int} {mX41_names : Nat → Option Nat} {mX41_from : Nat → Option Nat} {mX41_to : Nat → Option Nat} {mX41_n : Nat → Int} {mX41_codes : Nat → Option Nat} {mX41_least : Nat → Option Nat} {mX41_hasLeast : Nat → Int} {mX41_others : Nat → Option Nat} {mX41_otherCount : Nat → Int} {mX41_named : Nat → Option Nat} {mX62_answers : Nat → Int} {mX62_names : Nat → Option Nat} {mX62_from : Nat → Option Nat} {mX62_to : Nat → Option Nat} {mX62_n : Nat → Int} {mX62_forms : Nat → Option Nat} {mX62_count : Nat → Int} {mX62_large : Nat → Int} {mX62_known : Nat → Int} {mX85_first : Nat → Int} {mX85_second : Nat → Int} {mX85_codes : Nat → Option Nat} {A : Nat → Int → Nat} {G : Nat → Nat × Int} {nq nF na nf nQ : Int} {FF : Int → qFo} {qa qk kf lf rt cf rf sq sf ow : Int → Int} {ql : Int → List qA} {qS : Int → qSS} {j n k v oc i a b o f y r pl fl : Int} {l : List qA} {S : qSS} {MC MS : Nat} {F : qFo}
theorem CQR_keepE {post : (Nat → Nat) → (Nat → Nat) → (Nat → Int → Int) → (Nat → Int → Option Nat) → (Nat → Int) → (Nat → Int) → (Nat → Int) → (Nat → Int) → (Nat → Int) → (Nat → Int) → (Nat → Int) → (Nat → Int) → (Nat → Int) → (Nat → Option Nat) → Prop} {x0 b9 : Nat} (e0 : A 0 0 = x0) (e9 : A 9 j = b9) (ea : mX41_first (A 1 0) = a) (eb : mX41_second (A 1 0) = b) (H : qcR kd an ai al ar mX40_kinds mX40_lefts mX40_rights mX40_axioms mX40_classFacts mX40_roleFacts mX40_facts mX40_draft mX40_questions mX40_questionCount mX40_forbidden mX40_given mX41_first mX41_second mX41_names mX41_from mX41_to mX41_n mX41_codes mX41_least mX41_hasLeast mX41_others mX41_otherCount mX41_named mX62_answers mX62_names mX62_from mX62_to mX62_n mX62_forms mX62_count mX62_large mX62_known mX85_first mX85_second mX85_codes A G nq nF FF qa ql (updI qS j S) qk kf lf rt na cf rf nf nQ sq sf ow) (hj : 0 ≤ j ∧ j < nq) (n4 : 1 ≤ mX41_n (A 1 0) ∧ mX41_n (A 1 0) ≤ 4) (hg : ∀ k, 0 ≤ k → k < mX41_n (A 1 0) → qGa (qAr (ai (qcP A 0)) (ai (qcP A 1)) (ai (qcP A 2)) k)) (hl : aF (qAr (ai (qcP A 0)) (ai (qcP A 1)) (ai (qcP A 2))) 0 (mX41_n (A 1 0)).toNat = l) (bC : 2 * ((qFin a b l S).1.length - S.1.length) ≤ MC) (bS : 7 * ((qFin a b l S).1.length - S.1.length) ≤ MS)
  (hp : ∀ kd' an' ai' ar' fi' se' n' hl' oc' qc' qlg' f1' f2' cd' A' G' nF' FF', qcM A A' nq nF nF' FF FF' → qcR (kd') (an') (ai') al (ar') mX40_kinds mX40_lefts mX40_rights mX40_axioms mX40_classFacts mX40_roleFacts mX40_facts mX40_draft mX40_questions mX40_questionCount mX40_forbidden mX40_given (fi') (se') mX41_names mX41_from mX41_to (n') mX41_codes mX41_least (hl') mX41_others (oc') mX41_named mX62_answers mX62_names mX62_from mX62_to mX62_n mX62_forms (qc') (qlg') mX62_known (f1') (f2') (cd') A' G' nq nF' FF' qa ql (updI qS j (qFin a b l S)) qk kf lf rt na cf rf nf nQ sq sf ow → post kd' an' ai' ar' fi' se' n' hl' oc' qc' qlg' f1' f2' cd') : wpQR_X40_keep MC MS post kd an ai ar mX40_draft mX41_first mX41_second mX41_names mX41_from mX41_to mX41_n mX41_codes mX41_least mX41_hasLeast mX41_others mX41_otherCount mX41_named mX62_forms mX62_count mX62_large mX85_first mX85_second mX85_codes x0 (some b9) := by
  subst e0
  subst e9
  refine CQR_keepA (qS := updI qS j S) ea eb H hj n4 hg hl (by rw [updI_s]; exact bC) (by rw [updI_s]; exact bS) (fun kd' an' ai' ar' fi' se' n' hl' oc' qc' qlg' f1' f2' cd' A' G' nF' FF' M R' => hp _ _ _ _ _ _ _ _ _ _ _ _ _ _ A' G' nF' FF' M ?_)
  rw [updI_s, updI_2a] at R'
  exact R'
theorem qcR.reset {kn' qc' qlg' : Nat → Int} (H : qcR kd an ai al ar mX40_kinds mX40_lefts mX40_rights mX40_axioms mX40_classFacts mX40_roleFacts mX40_facts mX40_draft mX40_questions mX40_questionCount mX40_forbidden mX40_given mX41_first mX41_second mX41_names mX41_from mX41_to mX41_n mX41_codes mX41_least mX41_hasLeast mX41_others mX41_otherCount mX41_named mX62_answers mX62_names mX62_from mX62_to mX62_n mX62_forms mX62_count mX62_large mX62_known mX85_first mX85_second mX85_codes A G nq nF FF qa ql qS qk kf lf rt na cf rf nf nQ sq sf ow) (hj : 0 ≤ j ∧ j < nq) (e1 : kn' = va_up mX62_known (A 9 j) na) (e2 : qc' = va_up mX62_count (A 9 j) 0) (e3 : qlg' = va_up mX62_large (A 9 j) 0) : qcR kd an ai al ar mX40_kinds mX40_lefts mX40_rights mX40_axioms mX40_classFacts mX40_roleFacts mX40_facts mX40_draft mX40_questions mX40_questionCount mX40_forbidden mX40_given mX41_first mX41_second mX41_names mX41_from mX41_to mX41_n mX41_codes mX41_least mX41_hasLeast mX41_others mX41_otherCount mX41_named mX62_answers mX62_names mX62_from mX62_to mX62_n mX62_forms (qc') (qlg') (kn') mX85_first mX85_second mX85_codes A G nq nF FF qa ql (updI qS j ([], 0)) (updI qk j na) kf lf rt na cf rf nf nQ sq sf ow := by
  obtain ⟨hb, Fl, D, HF, HQ, HX, HC, HS⟩ := H
  have ne : ∀ i, 0 ≤ i → i < nq → i ≠ j → A 9 i ≠ A 9 j := fun i i0 i1 w => hb.1.ne ⟨i0, show i < nq from i1⟩ ⟨hj.1, show j < nq from hj.2⟩ (Or.inr w)
  refine ⟨hb, Fl, D, HF, fun i i0 i1 => ⟨(HQ i i0 i1).1, ?_, ?_⟩, HX, HC, HS⟩
  · rw [updI_e]
    by_cases z : i = j
    · rw [if_pos z, z]
      exact ⟨by rw [e2, va_up_self]; rfl, Nat.zero_le _, by rw [e3, va_up_self], Or.inl rfl, fun t t0 t1 => absurd (show t < 0 from t1) (by omega)⟩
    · rw [if_neg z]
      exact (HQ i i0 i1).2.1.tr rfl rfl (by rw [e2]; exact va_up_ne _ _ (ne i i0 i1 z)) (by rw [e3]; exact va_up_ne _ _ (ne i i0 i1 z)) rfl (fun _ _ _ => ⟨rfl, rfl⟩) (Int.le_refl _)
  · rw [e1, updI_e]
    by_cases z : i = j
    · rw [if_pos z, z, va_up_self]
    · rw [if_neg z, va_up_ne _ _ (ne i i0 i1 z)]; exact (HQ i i0 i1).2.2
theorem CQR_m66 {K : (Nat → Int → Int) → (Nat → Int) → Prop} (H : qcR kd an ai al ar mX40_kinds mX40_lefts mX40_rights mX40_axioms mX40_classFacts mX40_roleFacts mX40_facts mX40_draft mX40_questions mX40_questionCount mX40_forbidden mX40_given mX41_first mX41_second mX41_names mX41_from mX41_to mX41_n mX41_codes mX41_least mX41_hasLeast mX41_others mX41_otherCount mX41_named mX62_answers mX62_names mX62_from mX62_to mX62_n mX62_forms mX62_count mX62_large mX62_known mX85_first mX85_second mX85_codes A G nq nF FF qa ql qS qk kf lf rt na cf rf nf nQ sq sf ow) (hj : 0 ≤ j ∧ j < nq) (h0 : mX41_n (A 1 0) = 0) (hK : ∀ ai' n', qcG (qcP A) 0 3 ai ai' → n' (A 1 0) = mX62_n (A 9 j) → (∀ i, 0 ≤ i → i < mX62_n (A 9 j) → qAr (ai' (qcP A 0)) (ai' (qcP A 1)) (ai' (qcP A 2)) i = qAr (ai (A 10 (3 * j))) (ai (A 10 (3 * j + 1))) (ai (A 10 (3 * j + 2))) i) → K ai' n') : ∃ fu : Nat, wQR_X40_make_66 MC MS K (A 0 0) (some (A 9 j)) kd an mX40_draft mX41_names mX41_from mX41_to mX62_names mX62_from mX62_to mX62_n 0 0 fu 0 ai mX41_n := by
  obtain ⟨⟨HL, q0, f0_⟩, Fl, D, HF, HQ, HX, HC, HS⟩ := H
  have eD : mX40_draft (A 0 0) = some (A 1 0) := Fl.2.2.1
  have k9 : kd (A 9 j) = 3 := (HL 9 j hj.1 (show j < nq from hj.2)).2.1.1
  obtain ⟨⟨_, _⟩, ⟨eN, eF, eT, eFm⟩, n4, _, _⟩ := (HQ j hj.1 hj.2).1
  have ks : ∀ t, 0 ≤ t → t < 3 * nq → kd (A 10 t) = 5 ∧ an (A 10 t) = 4 := fun t t0 t1 => ⟨(HL 10 t t0 t1).2.1.1, (HL 10 t t0 t1).2.2 (by decide)⟩
  have b0 := ks (3 * j) (by omega) (by omega)
  have b1 := ks (3 * j + 1) (by omega) (by omega)
  have b2 := ks (3 * j + 2) (by omega) (by omega)
  have o : ∀ ai' : Nat → Int → Int, qcG (qcP A) 0 3 ai ai' → ∀ t, 0 ≤ t → t < 3 * nq → ai' (A 10 t) = ai (A 10 t) := fun ai' g t t0 t1 => g _ (fun k _ hk => HL.ne ⟨t0, t1⟩ ⟨by omega, show (k : Int) < 7 by omega⟩ (Or.inl (by decide)))
  refine wl3 (fun fu k ai' n' => wQR_X40_make_66 MC MS K (A 0 0) (some (A 9 j)) kd an mX40_draft mX41_names mX41_from mX41_to mX62_names mX62_from mX62_to mX62_n 0 0 fu k ai' n') (fun k ai' n' => (0 ≤ k ∧ k ≤ mX62_n (A 9 j)) ∧ n' (A 1 0) = k ∧ qcG (qcP A) 0 3 ai ai' ∧ ∀ i, 0 ≤ i → i < k → qAr (ai' (qcP A 0)) (ai' (qcP A 1)) (ai' (qcP A 2)) i = qAr (ai (A 10 (3 * j))) (ai (A 10 (3 * j + 1))) (ai (A 10 (3 * j + 2))) i) (fun k _ _ => (mX62_n (A 9 j) - k).toNat) ?_ 0 ai mX41_n ⟨by omega, h0, qcG.refl, fun i a b => by omega⟩
  rintro k ai1 n1 ⟨hk, en, G, hJ⟩ f ih
  rw [wQR_X40_make_66]
  refine kOn_some ⟨k9, fun z => hK _ _ G (by omega) (fun i i0 i1 => hJ i i0 (by omega)), fun z => kOn_of eN ⟨b0.1, by rw [b0.2]; omega, kOn_of eF ⟨b1.1, by rw [b1.2]; omega, kOn_of eT ⟨b2.1, by rw [b2.2]; omega, kOn_of eD ⟨D.1, ⟨by omega, by omega⟩, CQR_add (mX41_n := n1) D (by omega) (fun ai2 n2 G2 en2 hw => ⟨by omega, fun _ e => ?_⟩)⟩⟩⟩⟩⟩
  rw [e]
  refine ih _ _ _ ⟨by omega, by omega, G.tr G2, fun i i0 i1 => ?_⟩ (by omega)
  have q := hJ i i0
  unfold qAr at q ⊢
  rw [hw.1, hw.2.1, hw.2.2, en, updI_e, updI_e, updI_e]
  by_cases y : i = k
  · rw [if_pos y, if_pos y, if_pos y, y, o _ G _ (by omega) (by omega), o _ G _ (by omega) (by omega), o _ G _ (by omega) (by omega)]
  · rw [if_neg y, if_neg y, if_neg y]; exact q (by omega)
theorem CQR_m47 {post : (Nat → Nat) → (Nat → Nat) → (Nat → Int → Int) → (Nat → Int → Option Nat) → (Nat → Int) → (Nat → Int) → (Nat → Int) → (Nat → Int) → (Nat → Int) → (Nat → Int) → (Nat → Int) → (Nat → Int) → (Nat → Int) → (Nat → Int) → (Nat → Option Nat) → Prop} (H : qcR kd an ai al ar mX40_kinds mX40_lefts mX40_rights mX40_axioms mX40_classFacts mX40_roleFacts mX40_facts mX40_draft mX40_questions mX40_questionCount mX40_forbidden mX40_given mX41_first mX41_second mX41_names mX41_from mX41_to mX41_n mX41_codes mX41_least mX41_hasLeast mX41_others mX41_otherCount mX41_named mX62_answers mX62_names mX62_from mX62_to mX62_n mX62_forms mX62_count mX62_large mX62_known mX85_first mX85_second mX85_codes A G nq nF FF qa ql (updI qS j ([], 0)) qk kf lf rt na cf rf nf nQ sq sf ow) (hj : 0 ≤ j ∧ j < nq) (hn : 1 ≤ mX62_n (A 9 j)) (bC : 180 ≤ MC) (bS : 630 ≤ MS) (hp : ∀ kd' an' ai' ar' fi' se' n' hl' oc' qc' qlg' f1' f2' cd' A' G' nF' FF', qcM A A' nq nF nF' FF FF' → qcR (kd') (an') (ai') al (ar') mX40_kinds mX40_lefts mX40_rights mX40_axioms mX40_classFacts mX40_roleFacts mX40_facts mX40_draft mX40_questions mX40_questionCount mX40_forbidden mX40_given (fi') (se') mX41_names mX41_from mX41_to (n') mX41_codes mX41_least (hl') mX41_others (oc') mX41_named mX62_answers mX62_names mX62_from mX62_to mX62_n mX62_forms (qc') (qlg') mX62_known (f1') (f2') (cd') A' G' nq nF' FF' qa ql (updI qS j (qZ kf lf rt na 91 0 (qFin a (if qa j ≤ 1 then -1 else 9) (ql j) ([], 0)))) qk kf lf rt na cf rf nf nQ sq sf ow → post kd' an' ai' ar' fi' se' n' hl' oc' qc' qlg' mX62_known f1' f2' cd') : wQR_X40_make_47 MC MS post (A 0 0) (some (A 9 j)) (some (A 1 0)) a kd an ai ar mX40_kinds mX40_lefts mX40_rights mX40_axioms mX40_draft mX41_first mX41_second mX41_names mX41_from mX41_to mX41_n mX41_codes mX41_least mX41_hasLeast mX41_others mX41_otherCount mX41_named mX62_answers mX62_names mX62_from mX62_to mX62_n mX62_forms mX62_count mX62_large mX62_known mX85_first mX85_second mX85_codes 0 0 := by
  have H0 := H
  obtain ⟨⟨HL, q0, f0_⟩, Fl, D, HF, HQ, HX, HC, HS⟩ := H
  have k9 : kd (A 9 j) = 3 := (HL 9 j hj.1 (show j < nq from hj.2)).2.1.1
  obtain ⟨Q1, Q2, _⟩ := HQ j hj.1 hj.2
  have n4 := Q1.2.2.1
  have ean := Q1.1.1
  unfold wQR_X40_make_47
  refine kOn_some ⟨k9, fun z => kOn_some ⟨D.1, ⟨by omega, by omega⟩, ?_⟩, fun z => kOn_some ⟨D.1, ⟨by omega, by omega⟩, ?_⟩⟩
  · rw [ean] at z
    unfold wpQR_X41_begin
    intro fi1 ef se1 es n0 en
    have R0 := qcR.dr (mX41_first' := fi1) (mX41_second' := se1) (mX41_n' := n0) (mX41_hasLeast' := mX41_hasLeast) (mX41_otherCount' := mX41_otherCount) H0 qcG.refl
    refine CQR_m66 R0 hj (by rw [en, va_up_self]) (fun ai1 n1 G1 en1 hT => ?_)
    have n41 : 1 ≤ n1 (A 1 0) ∧ n1 (A 1 0) ≤ 4 := by omega
    have px : (qFin a (-1) (ql j) ([], 0)).1.length ≤ 90 := qKp_90 (Nat.zero_le _)
    refine ⟨2 * (qFin a (-1) (ql j) ([], 0)).1.length, 7 * (qFin a (-1) (ql j) ([], 0)).1.length, ⟨by omega, by omega⟩, CQR_keepE (S := ([], 0)) (l := ql j) rfl rfl (by rw [ef, va_up_self]) (by rw [es, va_up_self]) (qcR.dr H0 (G1.wd (by decide) (by decide))) hj n41 (fun i i0 i1 => ?_) ?_ (show 2 * (_ - 0) ≤ _ by omega) (show 7 * (_ - 0) ≤ _ by omega) (fun kd' an' ai' ar' fi' se' n' hl' oc' qc' qlg' f1' f2' cd' A' G' nF' FF' M R' _ => ⟨_, CQR_m112 hj 91 0 _ _ _ _ _ _ _ _ _ _ _ _ _ _ _ _ _ A' G' nF' FF' (by omega) (by omega) R' ⟨M.2.1 0 0 (by decide) (show (0 : Int) < 1 by decide), M.2.1 9 j hj.1 (show j < nq from hj.2)⟩ (by unfold qcBd; omega) (fun kd2 an2 ai2 ar2 fi2 se2 n2 hl2 oc2 qc2 qlg2 f12 f22 cd2 kc2 ks2 A2 G2 nF2 FF2 M2 R2 W2 B2 => ⟨by unfold qcBd at B2; omega, by unfold qcBd at B2; omega, hp _ _ _ _ _ _ _ _ _ _ _ _ _ _ A2 G2 nF2 FF2 (M.tr M2) ?_⟩)⟩)⟩
    · rw [hT i i0 (by omega)]
      exact Q1.2.2.2.2 _ (by rw [← Q1.2.2.2.1]; exact (aF_mem _ _).2 ⟨i, by omega, rfl⟩)
    · rw [← Q1.2.2.2.1, en1]
      exact aF_c _ _ (fun i i0 i1 => hT i i0 (by omega))
    · rw [if_pos z]
      exact R2
  · rw [ean] at z
    unfold wpQR_X41_begin
    intro fi1 ef se1 es n0 en
    have R0 := qcR.dr (mX41_first' := fi1) (mX41_second' := se1) (mX41_n' := n0) (mX41_hasLeast' := mX41_hasLeast) (mX41_otherCount' := mX41_otherCount) H0 qcG.refl
    refine CQR_m66 R0 hj (by rw [en, va_up_self]) (fun ai1 n1 G1 en1 hT => ?_)
    have n41 : 1 ≤ n1 (A 1 0) ∧ n1 (A 1 0) ≤ 4 := by omega
    have px : (qFin a (9) (ql j) ([], 0)).1.length ≤ 90 := qKp_90 (Nat.zero_le _)
    refine ⟨2 * (qFin a (9) (ql j) ([], 0)).1.length, 7 * (qFin a (9) (ql j) ([], 0)).1.length, ⟨by omega, by omega⟩, CQR_keepE (S := ([], 0)) (l := ql j) rfl rfl (by rw [ef, va_up_self]) (by rw [es, va_up_self]) (qcR.dr H0 (G1.wd (by decide) (by decide))) hj n41 (fun i i0 i1 => ?_) ?_ (show 2 * (_ - 0) ≤ _ by omega) (show 7 * (_ - 0) ≤ _ by omega) (fun kd' an' ai' ar' fi' se' n' hl' oc' qc' qlg' f1' f2' cd' A' G' nF' FF' M R' _ => ⟨_, CQR_m112 hj 91 0 _ _ _ _ _ _ _ _ _ _ _ _ _ _ _ _ _ A' G' nF' FF' (by omega) (by omega) R' ⟨M.2.1 0 0 (by decide) (show (0 : Int) < 1 by decide), M.2.1 9 j hj.1 (show j < nq from hj.2)⟩ (by unfold qcBd; omega) (fun kd2 an2 ai2 ar2 fi2 se2 n2 hl2 oc2 qc2 qlg2 f12 f22 cd2 kc2 ks2 A2 G2 nF2 FF2 M2 R2 W2 B2 => ⟨by unfold qcBd at B2; omega, by unfold qcBd at B2; omega, hp _ _ _ _ _ _ _ _ _ _ _ _ _ _ A2 G2 nF2 FF2 (M.tr M2) ?_⟩)⟩)⟩
    · rw [hT i i0 (by omega)]
      exact Q1.2.2.2.2 _ (by rw [← Q1.2.2.2.1]; exact (aF_mem _ _).2 ⟨i, by omega, rfl⟩)
    · rw [← Q1.2.2.2.1, en1]
      exact aF_c _ _ (fun i i0 i1 => hT i i0 (by omega))
    · rw [if_neg z]
      exact R2
theorem CQR_make {post : (Nat → Nat) → (Nat → Nat) → (Nat → Int → Int) → (Nat → Int → Option Nat) → (Nat → Int) → (Nat → Int) → (Nat → Int) → (Nat → Int) → (Nat → Int) → (Nat → Int) → (Nat → Int) → (Nat → Int) → (Nat → Int) → (Nat → Int) → (Nat → Option Nat) → Prop} (H : qcR kd an ai al ar mX40_kinds mX40_lefts mX40_rights mX40_axioms mX40_classFacts mX40_roleFacts mX40_facts mX40_draft mX40_questions mX40_questionCount mX40_forbidden mX40_given mX41_first mX41_second mX41_names mX41_from mX41_to mX41_n mX41_codes mX41_least mX41_hasLeast mX41_others mX41_otherCount mX41_named mX62_answers mX62_names mX62_from mX62_to mX62_n mX62_forms mX62_count mX62_large mX62_known mX85_first mX85_second mX85_codes A G nq nF FF qa ql qS qk kf lf rt na cf rf nf nQ sq sf ow) (hj : 0 ≤ j ∧ j < nq) (hn : 1 ≤ mX62_n (A 9 j)) (hc : qk j = na → qS j = qcZ kf lf rt na (qa j) (ql j)) (bC : 180 ≤ MC) (bS : 630 ≤ MS) (hp : ∀ kd' an' ai' ar' fi' se' n' hl' oc' qc' qlg' kn' f1' f2' cd' A' G' nF' FF', qcM A A' nq nF nF' FF FF' → qcR (kd') (an') (ai') al (ar') mX40_kinds mX40_lefts mX40_rights mX40_axioms mX40_classFacts mX40_roleFacts mX40_facts mX40_draft mX40_questions mX40_questionCount mX40_forbidden mX40_given (fi') (se') mX41_names mX41_from mX41_to (n') mX41_codes mX41_least (hl') mX41_others (oc') mX41_named mX62_answers mX62_names mX62_from mX62_to mX62_n mX62_forms (qc') (qlg') (kn') (f1') (f2') (cd') A' G' nq nF' FF' qa ql (updI qS j (qcZ kf lf rt na (qa j) (ql j))) (updI qk j na) kf lf rt na cf rf nf nQ sq sf ow → post kd' an' ai' ar' fi' se' n' hl' oc' qc' qlg' kn' f1' f2' cd') : wpQR_X40_make MC MS post kd an ai ar mX40_kinds mX40_lefts mX40_rights mX40_axioms mX40_draft mX41_first mX41_second mX41_names mX41_from mX41_to mX41_n mX41_codes mX41_least mX41_hasLeast mX41_others mX41_otherCount mX41_named mX62_answers mX62_names mX62_from mX62_to mX62_n mX62_forms mX62_count mX62_large mX62_known mX85_first mX85_second mX85_codes (A 0 0) (some (A 9 j)) := by
  have H0 := H
  obtain ⟨⟨HL, q0, f0_⟩, Fl, D, HF, HQ, HX, HC, HS⟩ := H
  have k9 : kd (A 9 j) = 3 := (HL 9 j hj.1 (show j < nq from hj.2)).2.1.1
  obtain ⟨Q1, Q2, ek⟩ := HQ j hj.1 hj.2
  have ean := Q1.1.1
  have eax := HX.1
  have eD : mX40_draft (A 0 0) = some (A 1 0) := Fl.2.2.1
  unfold wpQR_X40_make
  refine kOn_some ⟨k9, fun z => ⟨by omega, by omega, hp _ _ _ _ _ _ _ _ _ _ _ _ _ _ _ A G nF FF qcM.refl ?_⟩, fun z kv ekv kn1 ekn qc1 eqc ql1 eql => ?_⟩
  · rw [ek, eax] at z
    rw [← hc z, updI_ia]
    have : updI qk j na = qk := by rw [← z]; exact updI_ia
    rw [this]
    exact H0
  · have R1 := qcR.reset (kn' := kn1) (qc' := qc1) (qlg' := ql1) H0 hj (by rw [ekn, ekv, eax]) eqc eql
    have go : ∀ a, a = (if qa j ≤ 0 then -1 else 8) → wQR_X40_make_47 MC MS post (A 0 0) (some (A 9 j)) (some (A 1 0)) a kd an ai ar mX40_kinds mX40_lefts mX40_rights mX40_axioms mX40_draft mX41_first mX41_second mX41_names mX41_from mX41_to mX41_n mX41_codes mX41_least mX41_hasLeast mX41_others mX41_otherCount mX41_named mX62_answers mX62_names mX62_from mX62_to mX62_n mX62_forms qc1 ql1 kn1 mX85_first mX85_second mX85_codes 0 0 := fun a ea => by
      refine CQR_m47 R1 hj hn bC bS (fun kd' an' ai' ar' fi' se' n' hl' oc' qc' qlg' f1' f2' cd' A' G' nF' FF' M R' => hp _ _ _ _ _ _ _ _ _ _ _ _ _ _ _ A' G' nF' FF' M ?_)
      unfold qcZ
      rw [← ea]
      exact R'
    rw [eD]
    exact ⟨fun w => go _ (by rw [ean] at w; rw [if_pos w]), fun w => go _ (by rw [ean] at w; rw [if_neg w])⟩
end
