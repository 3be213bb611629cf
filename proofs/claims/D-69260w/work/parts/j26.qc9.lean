/-! QlRewrite (room QR): all forms are made, the loops -/
theorem updI_2a {α : Type} {f : Int → α} {i : Int} {v w : α} : updI (updI f i v) i w = updI f i w := funext fun j => by
  rw [updI_e, updI_e, updI_e]
  by_cases z : j = i
  · rw [if_pos z, if_pos z]
  · rw [if_neg z, if_neg z, if_neg z]
/-- where this, the question, the form stand -/
def qcAt (A : Nat → Int → Nat) (nF : Int) (FF : Int → qFo) (x0 b9 b12 : Nat) (j r : Int) (F : qFo) : Prop := A 0 0 = x0 ∧ A 9 j = b9 ∧ A 12 r = b12 ∧ (0 ≤ r ∧ r < nF) ∧ FF r = F
theorem qcAt.tr {A A' : Nat → Int → Nat} {nq nF nF' : Int} {FF FF' : Int → qFo} {x0 b9 b12 : Nat} {j r : Int} {F : qFo} (h : qcAt A nF FF x0 b9 b12 j r F) (hj : 0 ≤ j ∧ j < nq) (M : qcM A A' nq nF nF' FF FF') : qcAt A' nF' FF' x0 b9 b12 j r F := by
  obtain ⟨h1, h2, h3, h4, h5⟩ := h
  exact ⟨(M.2.1 0 0 (by decide) (show (0 : Int) < 1 by decide)).trans h1, (M.2.1 9 j hj.1 (show j < nq from hj.2)).trans h2, (M.2.1 12 r h4.1 (show r < nF from h4.2)).trans h3, ⟨h4.1, Int.lt_of_lt_of_le h4.2 M.1⟩, (M.2.2 r h4.1 h4.2).trans h5⟩
def qcBd (MC MS kc ks : Nat) (S : qSS) : Prop := kc + 2 * (90 - S.1.length) ≤ MC ∧ ks + 7 * (90 - S.1.length) ≤ MS
theorem qcBd.st {MC MS kc ks : Nat} {S S' : qSS} (h : qcBd MC MS kc ks S) (h1 : S.1.length ≤ S'.1.length) (h2 : S'.1.length ≤ 90) : (kc + 2 * (S'.1.length - S.1.length) ≤ MC ∧ ks + 7 * (S'.1.length - S.1.length) ≤ MS) ∧ qcBd MC MS (kc + 2 * (S'.1.length - S.1.length)) (ks + 7 * (S'.1.length - S.1.length)) S' := by
  unfold qcBd at h ⊢
  omega
theorem qPx.len {S S' : qSS} (h : qPx S S') : S.1.length ≤ S'.1.length := by
  obtain ⟨r, e⟩ := h
  rw [e, List.length_append]; omega
theorem qKp_90 {S : qSS} {f : qFo} (h : S.1.length ≤ 90) : (qKp S f).1.length ≤ 90 := by
  unfold qKp
  by_cases z : f ∈ S.1
  · rw [pif_t z]; exact h
  · rw [pif_f z]
    by_cases y : S.1.length = 90
    · rw [if_pos y]; exact h
    · rw [if_neg y]
      show (S.1 ++ [f]).length ≤ 90
      rw [List.length_append]
      show S.1.length + 1 ≤ 90
      omega
theorem qAx_90 {S : qSS} {f : qFo} {kx L Rr k : Int} (h : S.1.length ≤ 90) : (qAx kx L Rr f k S).1.length ≤ 90 := by
  unfold qAx qFin
  split
  · split
    · exact h
    · exact qKp_90 h
  · split
    · split
      · exact qKp_90 h
      · exact h
    · exact h
theorem qJn_90 {S : qSS} {f : qFo} {i j : Int} (h : S.1.length ≤ 90) : (qJn f i j S).1.length ≤ 90 := by
  unfold qJn qFin
  split
  · exact qKp_90 h
  · exact h
section
variable {kd : Nat → Nat} {an : Nat → Nat} {ai : Nat → Int → Int} {al : Nat → Int → Int} {ar : Nat → Int → Option Nat} {mX40_kinds : Nat → Option Nat} {mX40_lefts : Nat → Option Nat} {mX40_rights : Nat → Option Nat} {mX40_axioms : Nat → Int} {mX40_classFacts : Nat → Option Nat} {mX40_roleFacts : Nat → Option Nat} {mX40_facts : Nat → Int} {mX40_draft : Nat → Option Nat} {mX40_questions : Nat → Option Nat} {mX40_questionCount : Nat → Int} {mX40_forbidden : Nat → Option Nat} {mX40_given : Nat → Option Nat} {mX41_first : Nat → Int} {mX41_second : Nat → Int} {mX41_names : Nat → Option Nat} {mX41_from : Nat → Option Nat} {mX41_to : Nat → Option Nat} {mX41_n : Nat → Int} {mX41_codes : Nat → Option Nat} {mX41_least : Nat → Option Nat} {mX41_hasLeast : Nat → Int} {mX41_others : Nat → Option Nat} {mX41_otherCount : Nat → Int} {mX41_named : Nat → Option Nat} {mX62_answers : Nat → Int} {mX62_names : Nat → Option Nat} {mX62_from : Nat → Option Nat} {mX62_to : Nat → Option Nat} {mX62_n : Nat → Int} {mX62_forms : Nat → Option Nat} {mX62_count : Nat → Int} {mX62_large : Nat → Int} {mX62_known : Nat → Int} {mX85_first : Nat → Int} {mX85_second : Nat → Int} {mX85_codes : Nat → Option Nat} {A : Nat → Int → Nat} {G : Nat → Nat × Int} {nq nF na nf nQ : Int} {FF : Int → qFo} {qa qk kf lf rt cf rf sq sf ow : Int → Int} {ql : Int → List qA} {qS : Int → qSS} {j n k v oc i a b o f y r pl fl : Int} {l : List qA} {S : qSS} {MC MS : Nat} {F : qFo}
theorem qcR.l90 (H : qcR kd an ai al ar mX40_kinds mX40_lefts mX40_rights mX40_axioms mX40_classFacts mX40_roleFacts mX40_facts mX40_draft mX40_questions mX40_questionCount mX40_forbidden mX40_given mX41_first mX41_second mX41_names mX41_from mX41_to mX41_n mX41_codes mX41_least mX41_hasLeast mX41_others mX41_otherCount mX41_named mX62_answers mX62_names mX62_from mX62_to mX62_n mX62_forms mX62_count mX62_large mX62_known mX85_first mX85_second mX85_codes A G nq nF FF qa ql (updI qS j S) qk kf lf rt na cf rf nf nQ sq sf ow) (hj : 0 ≤ j ∧ j < nq) : S.1.length ≤ 90 := by
  obtain ⟨_, _, _, _, HQ, _⟩ := H
  have := (HQ j hj.1 hj.2).2.1.2.1
  rw [updI_s] at this
  exact this
theorem CQR_applyE {post : (Nat → Nat) → (Nat → Nat) → (Nat → Int → Int) → (Nat → Int → Option Nat) → (Nat → Int) → (Nat → Int) → (Nat → Int) → (Nat → Int) → (Nat → Int) → (Nat → Int) → (Nat → Int) → (Nat → Int) → (Nat → Int) → (Nat → Option Nat) → Prop} {x0 b9 b12 : Nat} (W : qcAt A nF FF x0 b9 b12 j r F) (H : qcR kd an ai al ar mX40_kinds mX40_lefts mX40_rights mX40_axioms mX40_classFacts mX40_roleFacts mX40_facts mX40_draft mX40_questions mX40_questionCount mX40_forbidden mX40_given mX41_first mX41_second mX41_names mX41_from mX41_to mX41_n mX41_codes mX41_least mX41_hasLeast mX41_others mX41_otherCount mX41_named mX62_answers mX62_names mX62_from mX62_to mX62_n mX62_forms mX62_count mX62_large mX62_known mX85_first mX85_second mX85_codes A G nq nF FF qa ql (updI qS j S) qk kf lf rt na cf rf nf nQ sq sf ow) (hj : 0 ≤ j ∧ j < nq) (hk : 0 ≤ k ∧ k < (F.2.2.length : Int)) (hy : 0 ≤ y ∧ y < na) (bC : 2 * ((qAx (kf y) (lf y) (rt y) F k S).1.length - S.1.length) ≤ MC) (bS : 7 * ((qAx (kf y) (lf y) (rt y) F k S).1.length - S.1.length) ≤ MS)
  (hp : ∀ kd' an' ai' ar' fi' se' n' hl' oc' qc' qlg' f1' f2' cd' A' G' nF' FF', qcM A A' nq nF nF' FF FF' → qcR (kd') (an') (ai') al (ar') mX40_kinds mX40_lefts mX40_rights mX40_axioms mX40_classFacts mX40_roleFacts mX40_facts mX40_draft mX40_questions mX40_questionCount mX40_forbidden mX40_given (fi') (se') mX41_names mX41_from mX41_to (n') mX41_codes mX41_least (hl') mX41_others (oc') mX41_named mX62_answers mX62_names mX62_from mX62_to mX62_n mX62_forms (qc') (qlg') mX62_known (f1') (f2') (cd') A' G' nq nF' FF' qa ql (updI qS j (qAx (kf y) (lf y) (rt y) F k S)) qk kf lf rt na cf rf nf nQ sq sf ow → post kd' an' ai' ar' fi' se' n' hl' oc' qc' qlg' f1' f2' cd') : wpQR_X40_apply MC MS post kd an ai ar mX40_kinds mX40_lefts mX40_rights mX40_draft mX41_first mX41_second mX41_names mX41_from mX41_to mX41_n mX41_codes mX41_least mX41_hasLeast mX41_others mX41_otherCount mX41_named mX62_forms mX62_count mX62_large mX85_first mX85_second mX85_codes x0 (some b9) (some b12) k y := by
  obtain ⟨e0, e9, e12, hr, eF⟩ := W
  subst e0
  subst e9
  subst e12
  subst eF
  refine CQR_apply (qS := updI qS j S) H hj hr hk hy (by rw [updI_s]; exact bC) (by rw [updI_s]; exact bS) (fun kd' an' ai' ar' fi' se' n' hl' oc' qc' qlg' f1' f2' cd' A' G' nF' FF' M R' => hp _ _ _ _ _ _ _ _ _ _ _ _ _ _ A' G' nF' FF' M ?_)
  rw [updI_s, updI_2a] at R'
  exact R'
theorem CQR_joinE {post : (Nat → Nat) → (Nat → Nat) → (Nat → Int → Int) → (Nat → Int → Option Nat) → (Nat → Int) → (Nat → Int) → (Nat → Int) → (Nat → Int) → (Nat → Int) → (Nat → Int) → (Nat → Int) → (Nat → Int) → (Nat → Int) → (Nat → Option Nat) → Prop} {x0 b9 b12 : Nat} (W : qcAt A nF FF x0 b9 b12 j r F) (H : qcR kd an ai al ar mX40_kinds mX40_lefts mX40_rights mX40_axioms mX40_classFacts mX40_roleFacts mX40_facts mX40_draft mX40_questions mX40_questionCount mX40_forbidden mX40_given mX41_first mX41_second mX41_names mX41_from mX41_to mX41_n mX41_codes mX41_least mX41_hasLeast mX41_others mX41_otherCount mX41_named mX62_answers mX62_names mX62_from mX62_to mX62_n mX62_forms mX62_count mX62_large mX62_known mX85_first mX85_second mX85_codes A G nq nF FF qa ql (updI qS j S) qk kf lf rt na cf rf nf nQ sq sf ow) (hj : 0 ≤ j ∧ j < nq) (hk : 0 ≤ k ∧ k < (F.2.2.length : Int)) (hy : 0 ≤ y ∧ y < (F.2.2.length : Int)) (bC : 2 * ((qJn F k y S).1.length - S.1.length) ≤ MC) (bS : 7 * ((qJn F k y S).1.length - S.1.length) ≤ MS)
  (hp : ∀ kd' an' ai' ar' fi' se' n' hl' oc' qc' qlg' f1' f2' cd' A' G' nF' FF', qcM A A' nq nF nF' FF FF' → qcR (kd') (an') (ai') al (ar') mX40_kinds mX40_lefts mX40_rights mX40_axioms mX40_classFacts mX40_roleFacts mX40_facts mX40_draft mX40_questions mX40_questionCount mX40_forbidden mX40_given (fi') (se') mX41_names mX41_from mX41_to (n') mX41_codes mX41_least (hl') mX41_others (oc') mX41_named mX62_answers mX62_names mX62_from mX62_to mX62_n mX62_forms (qc') (qlg') mX62_known (f1') (f2') (cd') A' G' nq nF' FF' qa ql (updI qS j (qJn F k y S)) qk kf lf rt na cf rf nf nQ sq sf ow → post kd' an' ai' ar' fi' se' n' hl' oc' qc' qlg' f1' f2' cd') : wpQR_X40_join MC MS post kd an ai ar mX40_draft mX41_first mX41_second mX41_names mX41_from mX41_to mX41_n mX41_codes mX41_least mX41_hasLeast mX41_others mX41_otherCount mX41_named mX62_forms mX62_count mX62_large mX85_first mX85_second mX85_codes x0 (some b9) (some b12) k y := by
  obtain ⟨e0, e9, e12, hr, eF⟩ := W
  subst e0
  subst e9
  subst e12
  subst eF
  refine CQR_join (qS := updI qS j S) H hj hr hk hy (by rw [updI_s]; exact bC) (by rw [updI_s]; exact bS) (fun kd' an' ai' ar' fi' se' n' hl' oc' qc' qlg' f1' f2' cd' A' G' nF' FF' M R' => hp _ _ _ _ _ _ _ _ _ _ _ _ _ _ A' G' nF' FF' M ?_)
  rw [updI_s, updI_2a] at R'
  exact R'
theorem CQR_m150 {K : (Nat → Nat) → (Nat → Nat) → (Nat → Int → Int) → (Nat → Int → Option Nat) → (Nat → Int) → (Nat → Int) → (Nat → Int) → (Nat → Int) → (Nat → Int) → (Nat → Int) → (Nat → Int) → (Nat → Int) → (Nat → Int) → (Nat → Option Nat) → Nat → Nat → Prop} {x0 b9 b12 : Nat} (hj : 0 ≤ j ∧ j < nq) (hk : 0 ≤ k ∧ k < (F.2.2.length : Int)) : ∀ (p : Nat) (y : Int) (S : qSS) (kd1 an1 : Nat → Nat) (ai1 : Nat → Int → Int) (ar1 : Nat → Int → Option Nat) (fi1 se1 n1 hl1 oc1 qc1 qlg1 f11 f21 : Nat → Int) (cd1 : Nat → Option Nat) (kc ks : Nat) (A1 : Nat → Int → Nat) (G1 : Nat → Nat × Int) (nF1 : Int) (FF1 : Int → qFo), y + p = na → 0 ≤ y → qcR kd1 an1 ai1 al ar1 mX40_kinds mX40_lefts mX40_rights mX40_axioms mX40_classFacts mX40_roleFacts mX40_facts mX40_draft mX40_questions mX40_questionCount mX40_forbidden mX40_given fi1 se1 mX41_names mX41_from mX41_to n1 mX41_codes mX41_least hl1 mX41_others oc1 mX41_named mX62_answers mX62_names mX62_from mX62_to mX62_n mX62_forms qc1 qlg1 mX62_known f11 f21 cd1 A1 G1 nq nF1 FF1 qa ql (updI qS j (S)) qk kf lf rt na cf rf nf nQ sq sf ow → qcAt A1 nF1 FF1 x0 b9 b12 j r F → qcBd MC MS kc ks S →
  (∀ (kd2 an2 : Nat → Nat) (ai2 : Nat → Int → Int) (ar2 : Nat → Int → Option Nat) (fi2 se2 n2 hl2 oc2 qc2 qlg2 f12 f22 : Nat → Int) (cd2 : Nat → Option Nat) (kc2 ks2 : Nat) (A2 : Nat → Int → Nat) (G2 : Nat → Nat × Int) (nF2 : Int) (FF2 : Int → qFo), qcM A1 A2 nq nF1 nF2 FF1 FF2 → qcR kd2 an2 ai2 al ar2 mX40_kinds mX40_lefts mX40_rights mX40_axioms mX40_classFacts mX40_roleFacts mX40_facts mX40_draft mX40_questions mX40_questionCount mX40_forbidden mX40_given fi2 se2 mX41_names mX41_from mX41_to n2 mX41_codes mX41_least hl2 mX41_others oc2 mX41_named mX62_answers mX62_names mX62_from mX62_to mX62_n mX62_forms qc2 qlg2 mX62_known f12 f22 cd2 A2 G2 nq nF2 FF2 qa ql (updI qS j (qX kf lf rt F k p y S)) qk kf lf rt na cf rf nf nQ sq sf ow → qcAt A2 nF2 FF2 x0 b9 b12 j r F → qcBd MC MS kc2 ks2 (qX kf lf rt F k p y S) → K kd2 an2 ai2 ar2 fi2 se2 n2 hl2 oc2 qc2 qlg2 f12 f22 cd2 kc2 ks2) → wQR_X40_make_150 MC MS K x0 (some b9) (some b12) k mX40_kinds mX40_lefts mX40_rights mX40_axioms mX40_draft mX41_names mX41_from mX41_to mX41_codes mX41_least mX41_others mX41_named mX62_forms (p + 1) y kd1 an1 ai1 ar1 fi1 se1 n1 hl1 oc1 qc1 qlg1 f11 f21 cd1 kc ks := fun p => by
  induction p with
  | zero =>
    intro y S kd1 an1 ai1 ar1 fi1 se1 n1 hl1 oc1 qc1 qlg1 f11 f21 cd1 kc ks A1 G1 nF1 FF1 hp h0 H W B hK
    have ea : mX40_axioms x0 = na := by rw [← W.1]; exact H.2.2.2.2.2.1.1
    rw [wQR_X40_make_150]
    refine ⟨fun _ => hK _ _ _ _ _ _ _ _ _ _ _ _ _ _ kc ks A1 G1 nF1 FF1 qcM.refl H W B, fun z => ?_⟩
    rw [ea] at z; omega
  | succ p IH =>
    intro y S kd1 an1 ai1 ar1 fi1 se1 n1 hl1 oc1 qc1 qlg1 f11 f21 cd1 kc ks A1 G1 nF1 FF1 hp h0 H W B hK
    have ea : mX40_axioms x0 = na := by rw [← W.1]; exact H.2.2.2.2.2.1.1
    have n16 : na ≤ 16 := H.2.2.2.2.2.1.2.1.1.2
    rw [wQR_X40_make_150]
    have px : qPx S (qAx (kf y) (lf y) (rt y) F k S) := qAx_x
    have st := qcBd.st (S' := qAx (kf y) (lf y) (rt y) F k S) B px.len (qAx_90 (H.l90 hj))
    refine ⟨fun z => by rw [ea] at z; omega, fun _ => ⟨2 * ((qAx (kf y) (lf y) (rt y) F k S).1.length - S.1.length), 7 * ((qAx (kf y) (lf y) (rt y) F k S).1.length - S.1.length), st.1, CQR_applyE W H hj hk ⟨h0, by omega⟩ (Nat.le_refl _) (Nat.le_refl _) (fun kd' an' ai' ar' fi' se' n' hl' oc' qc' qlg' f1' f2' cd' A' G' nF' FF' M R' _ => ⟨by omega, fun y' ey => ?_⟩)⟩⟩
    rw [ey]
    exact IH (y + 1) (qAx (kf y) (lf y) (rt y) F k S) _ _ _ _ _ _ _ _ _ _ _ _ _ _ _ _ A' G' nF' FF' (by omega) (by omega) R' (W.tr hj M) st.2 (fun kd2 an2 ai2 ar2 fi2 se2 n2 hl2 oc2 qc2 qlg2 f12 f22 cd2 kc2 ks2 A2 G2 nF2 FF2 M2 R2 W2 B2 => hK _ _ _ _ _ _ _ _ _ _ _ _ _ _ _ _ A2 G2 nF2 FF2 (M.tr M2) R2 W2 B2)
theorem CQR_m137 {K : (Nat → Nat) → (Nat → Nat) → (Nat → Int → Int) → (Nat → Int → Option Nat) → (Nat → Int) → (Nat → Int) → (Nat → Int) → (Nat → Int) → (Nat → Int) → (Nat → Int) → (Nat → Int) → (Nat → Int) → (Nat → Int) → (Nat → Option Nat) → Nat → Nat → Prop} {x0 b9 b12 : Nat} (hj : 0 ≤ j ∧ j < nq) : ∀ (p : Nat) (k : Int) (S : qSS) (kd1 an1 : Nat → Nat) (ai1 : Nat → Int → Int) (ar1 : Nat → Int → Option Nat) (fi1 se1 n1 hl1 oc1 qc1 qlg1 f11 f21 : Nat → Int) (cd1 : Nat → Option Nat) (kc ks : Nat) (A1 : Nat → Int → Nat) (G1 : Nat → Nat × Int) (nF1 : Int) (FF1 : Int → qFo), k + p = (F.2.2.length : Int) → 0 ≤ k → qcR kd1 an1 ai1 al ar1 mX40_kinds mX40_lefts mX40_rights mX40_axioms mX40_classFacts mX40_roleFacts mX40_facts mX40_draft mX40_questions mX40_questionCount mX40_forbidden mX40_given fi1 se1 mX41_names mX41_from mX41_to n1 mX41_codes mX41_least hl1 mX41_others oc1 mX41_named mX62_answers mX62_names mX62_from mX62_to mX62_n mX62_forms qc1 qlg1 mX62_known f11 f21 cd1 A1 G1 nq nF1 FF1 qa ql (updI qS j (S)) qk kf lf rt na cf rf nf nQ sq sf ow → qcAt A1 nF1 FF1 x0 b9 b12 j r F → qcBd MC MS kc ks S →
  (∀ (kd2 an2 : Nat → Nat) (ai2 : Nat → Int → Int) (ar2 : Nat → Int → Option Nat) (fi2 se2 n2 hl2 oc2 qc2 qlg2 f12 f22 : Nat → Int) (cd2 : Nat → Option Nat) (kc2 ks2 : Nat) (A2 : Nat → Int → Nat) (G2 : Nat → Nat × Int) (nF2 : Int) (FF2 : Int → qFo), qcM A1 A2 nq nF1 nF2 FF1 FF2 → qcR kd2 an2 ai2 al ar2 mX40_kinds mX40_lefts mX40_rights mX40_axioms mX40_classFacts mX40_roleFacts mX40_facts mX40_draft mX40_questions mX40_questionCount mX40_forbidden mX40_given fi2 se2 mX41_names mX41_from mX41_to n2 mX41_codes mX41_least hl2 mX41_others oc2 mX41_named mX62_answers mX62_names mX62_from mX62_to mX62_n mX62_forms qc2 qlg2 mX62_known f12 f22 cd2 A2 G2 nq nF2 FF2 qa ql (updI qS j (qY kf lf rt na F p k S)) qk kf lf rt na cf rf nf nQ sq sf ow → qcAt A2 nF2 FF2 x0 b9 b12 j r F → qcBd MC MS kc2 ks2 (qY kf lf rt na F p k S) → K kd2 an2 ai2 ar2 fi2 se2 n2 hl2 oc2 qc2 qlg2 f12 f22 cd2 kc2 ks2) → wQR_X40_make_137 MC MS K x0 (some b9) (some b12) mX40_kinds mX40_lefts mX40_rights mX40_axioms mX40_draft mX41_names mX41_from mX41_to mX41_codes mX41_least mX41_others mX41_named mX62_forms (p + 1) k kd1 an1 ai1 ar1 fi1 se1 n1 hl1 oc1 qc1 qlg1 f11 f21 cd1 kc ks := fun p => by
  induction p with
  | zero =>
    intro k S kd1 an1 ai1 ar1 fi1 se1 n1 hl1 oc1 qc1 qlg1 f11 f21 cd1 kc ks A1 G1 nF1 FF1 hp h0 H W B hK
    have H0 := H
    have W0 := W
    obtain ⟨⟨HL, q0, f0_⟩, Fl, D, HF, HQ, HX, HC, HS⟩ := H
    obtain ⟨e0, e9, e12, hr, eF⟩ := W
    have len := (HF r hr.1 hr.2).at.1
    rw [eF] at len
    have p3 : cd1 b12 = some (A1 13 r) := by rw [← e12]; exact (HF r hr.1 hr.2).1.2.2
    have kc_ : kd1 (A1 13 r) = 5 := (HL 13 r hr.1 (show r < nF1 from hr.2)).2.1.1
    have kf_ : kd1 b12 = 4 := by rw [← e12]; exact (HL 12 r hr.1 (show r < nF1 from hr.2)).2.1.1
    have l4 := (HF r hr.1 hr.2).2.1
    rw [wQR_X40_make_137]
    refine kOn_some ⟨kf_, kOn_of p3 ⟨kc_, by omega, fun _ => hK _ _ _ _ _ _ _ _ _ _ _ _ _ _ kc ks A1 G1 nF1 FF1 qcM.refl H0 W0 B, fun z => by omega⟩⟩
  | succ p IH =>
    intro k S kd1 an1 ai1 ar1 fi1 se1 n1 hl1 oc1 qc1 qlg1 f11 f21 cd1 kc ks A1 G1 nF1 FF1 hp h0 H W B hK
    have H0 := H
    have W0 := W
    obtain ⟨⟨HL, q0, f0_⟩, Fl, D, HF, HQ, HX, HC, HS⟩ := H
    obtain ⟨e0, e9, e12, hr, eF⟩ := W
    have len := (HF r hr.1 hr.2).at.1
    rw [eF] at len
    have p3 : cd1 b12 = some (A1 13 r) := by rw [← e12]; exact (HF r hr.1 hr.2).1.2.2
    have kc_ : kd1 (A1 13 r) = 5 := (HL 13 r hr.1 (show r < nF1 from hr.2)).2.1.1
    have kf_ : kd1 b12 = 4 := by rw [← e12]; exact (HL 12 r hr.1 (show r < nF1 from hr.2)).2.1.1
    have l4 := (HF r hr.1 hr.2).2.1
    have n0 := HX.2.1.1.1
    rw [wQR_X40_make_137]
    refine kOn_some ⟨kf_, kOn_of p3 ⟨kc_, by omega, fun z => by omega, fun _ => ⟨_, CQR_m150 hj ⟨h0, by omega⟩ na.toNat 0 S _ _ _ _ _ _ _ _ _ _ _ _ _ _ kc ks A1 G1 nF1 FF1 (by omega) (by omega) H0 W0 B (fun kd2 an2 ai2 ar2 fi2 se2 n2 hl2 oc2 qc2 qlg2 f12 f22 cd2 kc2 ks2 A2 G2 nF2 FF2 M2 R2 W2 B2 => ⟨by omega, fun k' ek => ?_⟩)⟩⟩⟩
    rw [ek]
    exact IH (k + 1) (qX kf lf rt F k na.toNat 0 S) _ _ _ _ _ _ _ _ _ _ _ _ _ _ kc2 ks2 A2 G2 nF2 FF2 (by omega) (by omega) R2 W2 B2 (fun kd3 an3 ai3 ar3 fi3 se3 n3 hl3 oc3 qc3 qlg3 f13 f23 cd3 kc3 ks3 A3 G3 nF3 FF3 M3 R3 W3 B3 => hK _ _ _ _ _ _ _ _ _ _ _ _ _ _ _ _ A3 G3 nF3 FF3 (M2.tr M3) R3 W3 B3)
theorem CQR_m200 {K : (Nat → Nat) → (Nat → Nat) → (Nat → Int → Int) → (Nat → Int → Option Nat) → (Nat → Int) → (Nat → Int) → (Nat → Int) → (Nat → Int) → (Nat → Int) → (Nat → Int) → (Nat → Int) → (Nat → Int) → (Nat → Int) → (Nat → Option Nat) → Nat → Nat → Prop} {x0 b9 b12 : Nat} (hj : 0 ≤ j ∧ j < nq) (hk : 0 ≤ k ∧ k < (F.2.2.length : Int)) : ∀ (p : Nat) (y : Int) (S : qSS) (kd1 an1 : Nat → Nat) (ai1 : Nat → Int → Int) (ar1 : Nat → Int → Option Nat) (fi1 se1 n1 hl1 oc1 qc1 qlg1 f11 f21 : Nat → Int) (cd1 : Nat → Option Nat) (kc ks : Nat) (A1 : Nat → Int → Nat) (G1 : Nat → Nat × Int) (nF1 : Int) (FF1 : Int → qFo), y + p = (F.2.2.length : Int) → 0 ≤ y → qcR kd1 an1 ai1 al ar1 mX40_kinds mX40_lefts mX40_rights mX40_axioms mX40_classFacts mX40_roleFacts mX40_facts mX40_draft mX40_questions mX40_questionCount mX40_forbidden mX40_given fi1 se1 mX41_names mX41_from mX41_to n1 mX41_codes mX41_least hl1 mX41_others oc1 mX41_named mX62_answers mX62_names mX62_from mX62_to mX62_n mX62_forms qc1 qlg1 mX62_known f11 f21 cd1 A1 G1 nq nF1 FF1 qa ql (updI qS j (S)) qk kf lf rt na cf rf nf nQ sq sf ow → qcAt A1 nF1 FF1 x0 b9 b12 j r F → qcBd MC MS kc ks S →
  (∀ (kd2 an2 : Nat → Nat) (ai2 : Nat → Int → Int) (ar2 : Nat → Int → Option Nat) (fi2 se2 n2 hl2 oc2 qc2 qlg2 f12 f22 : Nat → Int) (cd2 : Nat → Option Nat) (kc2 ks2 : Nat) (A2 : Nat → Int → Nat) (G2 : Nat → Nat × Int) (nF2 : Int) (FF2 : Int → qFo), qcM A1 A2 nq nF1 nF2 FF1 FF2 → qcR kd2 an2 ai2 al ar2 mX40_kinds mX40_lefts mX40_rights mX40_axioms mX40_classFacts mX40_roleFacts mX40_facts mX40_draft mX40_questions mX40_questionCount mX40_forbidden mX40_given fi2 se2 mX41_names mX41_from mX41_to n2 mX41_codes mX41_least hl2 mX41_others oc2 mX41_named mX62_answers mX62_names mX62_from mX62_to mX62_n mX62_forms qc2 qlg2 mX62_known f12 f22 cd2 A2 G2 nq nF2 FF2 qa ql (updI qS j (qJ1 F k p y S)) qk kf lf rt na cf rf nf nQ sq sf ow → qcAt A2 nF2 FF2 x0 b9 b12 j r F → qcBd MC MS kc2 ks2 (qJ1 F k p y S) → K kd2 an2 ai2 ar2 fi2 se2 n2 hl2 oc2 qc2 qlg2 f12 f22 cd2 kc2 ks2) → wQR_X40_make_200 MC MS K x0 (some b9) (some b12) k mX40_draft mX41_names mX41_from mX41_to mX41_codes mX41_least mX41_others mX41_named mX62_forms (p + 1) y kd1 an1 ai1 ar1 fi1 se1 n1 hl1 oc1 qc1 qlg1 f11 f21 cd1 kc ks := fun p => by
  induction p with
  | zero =>
    intro y S kd1 an1 ai1 ar1 fi1 se1 n1 hl1 oc1 qc1 qlg1 f11 f21 cd1 kc ks A1 G1 nF1 FF1 hp h0 H W B hK
    have H0 := H
    have W0 := W
    obtain ⟨⟨HL, q0, f0_⟩, Fl, D, HF, HQ, HX, HC, HS⟩ := H
    obtain ⟨e0, e9, e12, hr, eF⟩ := W
    have len := (HF r hr.1 hr.2).at.1
    rw [eF] at len
    have p3 : cd1 b12 = some (A1 13 r) := by rw [← e12]; exact (HF r hr.1 hr.2).1.2.2
    have kc_ : kd1 (A1 13 r) = 5 := (HL 13 r hr.1 (show r < nF1 from hr.2)).2.1.1
    have kf_ : kd1 b12 = 4 := by rw [← e12]; exact (HL 12 r hr.1 (show r < nF1 from hr.2)).2.1.1
    have l4 := (HF r hr.1 hr.2).2.1
    rw [wQR_X40_make_200]
    refine kOn_some ⟨kf_, kOn_of p3 ⟨kc_, by omega, fun _ => hK _ _ _ _ _ _ _ _ _ _ _ _ _ _ kc ks A1 G1 nF1 FF1 qcM.refl H0 W0 B, fun z => by omega⟩⟩
  | succ p IH =>
    intro y S kd1 an1 ai1 ar1 fi1 se1 n1 hl1 oc1 qc1 qlg1 f11 f21 cd1 kc ks A1 G1 nF1 FF1 hp h0 H W B hK
    have H0 := H
    have W0 := W
    obtain ⟨⟨HL, q0, f0_⟩, Fl, D, HF, HQ, HX, HC, HS⟩ := H
    obtain ⟨e0, e9, e12, hr, eF⟩ := W
    have len := (HF r hr.1 hr.2).at.1
    rw [eF] at len
    have p3 : cd1 b12 = some (A1 13 r) := by rw [← e12]; exact (HF r hr.1 hr.2).1.2.2
    have kc_ : kd1 (A1 13 r) = 5 := (HL 13 r hr.1 (show r < nF1 from hr.2)).2.1.1
    have kf_ : kd1 b12 = 4 := by rw [← e12]; exact (HL 12 r hr.1 (show r < nF1 from hr.2)).2.1.1
    have l4 := (HF r hr.1 hr.2).2.1
    rw [wQR_X40_make_200]
    have px : qPx S (qJn F k y S) := qJn_x
    have st := qcBd.st (S' := qJn F k y S) B px.len (qJn_90 (H0.l90 hj))
    refine kOn_some ⟨kf_, kOn_of p3 ⟨kc_, by omega, fun z => by omega, fun _ => ⟨2 * ((qJn F k y S).1.length - S.1.length), 7 * ((qJn F k y S).1.length - S.1.length), st.1, CQR_joinE W0 H0 hj hk ⟨h0, by omega⟩ (Nat.le_refl _) (Nat.le_refl _) (fun kd' an' ai' ar' fi' se' n' hl' oc' qc' qlg' f1' f2' cd' A' G' nF' FF' M R' _ => ⟨by omega, fun y' ey => ?_⟩)⟩⟩⟩
    rw [ey]
    exact IH (y + 1) (qJn F k y S) _ _ _ _ _ _ _ _ _ _ _ _ _ _ _ _ A' G' nF' FF' (by omega) (by omega) R' (W0.tr hj M) st.2 (fun kd2 an2 ai2 ar2 fi2 se2 n2 hl2 oc2 qc2 qlg2 f12 f22 cd2 kc2 ks2 A2 G2 nF2 FF2 M2 R2 W2 B2 => hK _ _ _ _ _ _ _ _ _ _ _ _ _ _ _ _ A2 G2 nF2 FF2 (M.tr M2) R2 W2 B2)
theorem CQR_m184 {K : (Nat → Nat) → (Nat → Nat) → (Nat → Int → Int) → (Nat → Int → Option Nat) → (Nat → Int) → (Nat → Int) → (Nat → Int) → (Nat → Int) → (Nat → Int) → (Nat → Int) → (Nat → Int) → (Nat → Int) → (Nat → Int) → (Nat → Option Nat) → Nat → Nat → Prop} {x0 b9 b12 : Nat} (hj : 0 ≤ j ∧ j < nq) : ∀ (p : Nat) (k : Int) (S : qSS) (kd1 an1 : Nat → Nat) (ai1 : Nat → Int → Int) (ar1 : Nat → Int → Option Nat) (fi1 se1 n1 hl1 oc1 qc1 qlg1 f11 f21 : Nat → Int) (cd1 : Nat → Option Nat) (kc ks : Nat) (A1 : Nat → Int → Nat) (G1 : Nat → Nat × Int) (nF1 : Int) (FF1 : Int → qFo), k + p = (F.2.2.length : Int) → 0 ≤ k → qcR kd1 an1 ai1 al ar1 mX40_kinds mX40_lefts mX40_rights mX40_axioms mX40_classFacts mX40_roleFacts mX40_facts mX40_draft mX40_questions mX40_questionCount mX40_forbidden mX40_given fi1 se1 mX41_names mX41_from mX41_to n1 mX41_codes mX41_least hl1 mX41_others oc1 mX41_named mX62_answers mX62_names mX62_from mX62_to mX62_n mX62_forms qc1 qlg1 mX62_known f11 f21 cd1 A1 G1 nq nF1 FF1 qa ql (updI qS j (S)) qk kf lf rt na cf rf nf nQ sq sf ow → qcAt A1 nF1 FF1 x0 b9 b12 j r F → qcBd MC MS kc ks S →
  (∀ (kd2 an2 : Nat → Nat) (ai2 : Nat → Int → Int) (ar2 : Nat → Int → Option Nat) (fi2 se2 n2 hl2 oc2 qc2 qlg2 f12 f22 : Nat → Int) (cd2 : Nat → Option Nat) (kc2 ks2 : Nat) (A2 : Nat → Int → Nat) (G2 : Nat → Nat × Int) (nF2 : Int) (FF2 : Int → qFo), qcM A1 A2 nq nF1 nF2 FF1 FF2 → qcR kd2 an2 ai2 al ar2 mX40_kinds mX40_lefts mX40_rights mX40_axioms mX40_classFacts mX40_roleFacts mX40_facts mX40_draft mX40_questions mX40_questionCount mX40_forbidden mX40_given fi2 se2 mX41_names mX41_from mX41_to n2 mX41_codes mX41_least hl2 mX41_others oc2 mX41_named mX62_answers mX62_names mX62_from mX62_to mX62_n mX62_forms qc2 qlg2 mX62_known f12 f22 cd2 A2 G2 nq nF2 FF2 qa ql (updI qS j (qJ2 F p k S)) qk kf lf rt na cf rf nf nQ sq sf ow → qcAt A2 nF2 FF2 x0 b9 b12 j r F → qcBd MC MS kc2 ks2 (qJ2 F p k S) → K kd2 an2 ai2 ar2 fi2 se2 n2 hl2 oc2 qc2 qlg2 f12 f22 cd2 kc2 ks2) → wQR_X40_make_184 MC MS K x0 (some b9) (some b12) mX40_draft mX41_names mX41_from mX41_to mX41_codes mX41_least mX41_others mX41_named mX62_forms (p + 1) k kd1 an1 ai1 ar1 fi1 se1 n1 hl1 oc1 qc1 qlg1 f11 f21 cd1 kc ks := fun p => by
  induction p with
  | zero =>
    intro k S kd1 an1 ai1 ar1 fi1 se1 n1 hl1 oc1 qc1 qlg1 f11 f21 cd1 kc ks A1 G1 nF1 FF1 hp h0 H W B hK
    have H0 := H
    have W0 := W
    obtain ⟨⟨HL, q0, f0_⟩, Fl, D, HF, HQ, HX, HC, HS⟩ := H
    obtain ⟨e0, e9, e12, hr, eF⟩ := W
    have len := (HF r hr.1 hr.2).at.1
    rw [eF] at len
    have p3 : cd1 b12 = some (A1 13 r) := by rw [← e12]; exact (HF r hr.1 hr.2).1.2.2
    have kc_ : kd1 (A1 13 r) = 5 := (HL 13 r hr.1 (show r < nF1 from hr.2)).2.1.1
    have kf_ : kd1 b12 = 4 := by rw [← e12]; exact (HL 12 r hr.1 (show r < nF1 from hr.2)).2.1.1
    have l4 := (HF r hr.1 hr.2).2.1
    rw [wQR_X40_make_184]
    refine kOn_some ⟨kf_, kOn_of p3 ⟨kc_, by omega, fun _ => hK _ _ _ _ _ _ _ _ _ _ _ _ _ _ kc ks A1 G1 nF1 FF1 qcM.refl H0 W0 B, fun z => by omega⟩⟩
  | succ p IH =>
    intro k S kd1 an1 ai1 ar1 fi1 se1 n1 hl1 oc1 qc1 qlg1 f11 f21 cd1 kc ks A1 G1 nF1 FF1 hp h0 H W B hK
    have H0 := H
    have W0 := W
    obtain ⟨⟨HL, q0, f0_⟩, Fl, D, HF, HQ, HX, HC, HS⟩ := H
    obtain ⟨e0, e9, e12, hr, eF⟩ := W
    have len := (HF r hr.1 hr.2).at.1
    rw [eF] at len
    have p3 : cd1 b12 = some (A1 13 r) := by rw [← e12]; exact (HF r hr.1 hr.2).1.2.2
    have kc_ : kd1 (A1 13 r) = 5 := (HL 13 r hr.1 (show r < nF1 from hr.2)).2.1.1
    have kf_ : kd1 b12 = 4 := by rw [← e12]; exact (HL 12 r hr.1 (show r < nF1 from hr.2)).2.1.1
    have l4 := (HF r hr.1 hr.2).2.1
    rw [wQR_X40_make_184]
    refine kOn_some ⟨kf_, kOn_of p3 ⟨kc_, by omega, fun z => by omega, fun _ => ⟨by omega, fun y0 ey0 => ⟨p + 1, ?_⟩⟩⟩⟩
    rw [ey0]
    refine CQR_m200 hj ⟨h0, by omega⟩ p (k + 1) S _ _ _ _ _ _ _ _ _ _ _ _ _ _ kc ks A1 G1 nF1 FF1 (by omega) (by omega) H0 W0 B (fun kd2 an2 ai2 ar2 fi2 se2 n2 hl2 oc2 qc2 qlg2 f12 f22 cd2 kc2 ks2 A2 G2 nF2 FF2 M2 R2 W2 B2 => fun k' ek => ?_)
    rw [ek]
    exact IH (k + 1) (qJ1 F k p (k + 1) S) _ _ _ _ _ _ _ _ _ _ _ _ _ _ kc2 ks2 A2 G2 nF2 FF2 (by omega) (by omega) R2 W2 B2 (fun kd3 an3 ai3 ar3 fi3 se3 n3 hl3 oc3 qc3 qlg3 f13 f23 cd3 kc3 ks3 A3 G3 nF3 FF3 M3 R3 W3 B3 => hK _ _ _ _ _ _ _ _ _ _ _ _ _ _ _ _ A3 G3 nF3 FF3 (M2.tr M3) R3 W3 B3)
theorem CQR_m112 {K : (Nat → Nat) → (Nat → Nat) → (Nat → Int → Int) → (Nat → Int → Option Nat) → (Nat → Int) → (Nat → Int) → (Nat → Int) → (Nat → Int) → (Nat → Int) → (Nat → Int) → (Nat → Int) → (Nat → Int) → (Nat → Int) → (Nat → Option Nat) → Nat → Nat → Prop} {x0 b9 : Nat} (hj : 0 ≤ j ∧ j < nq) : ∀ (p : Nat) (i : Int) (S : qSS) (kd1 an1 : Nat → Nat) (ai1 : Nat → Int → Int) (ar1 : Nat → Int → Option Nat) (fi1 se1 n1 hl1 oc1 qc1 qlg1 f11 f21 : Nat → Int) (cd1 : Nat → Option Nat) (kc ks : Nat) (A1 : Nat → Int → Nat) (G1 : Nat → Nat × Int) (nF1 : Int) (FF1 : Int → qFo), i + p = 91 → 0 ≤ i → qcR kd1 an1 ai1 al ar1 mX40_kinds mX40_lefts mX40_rights mX40_axioms mX40_classFacts mX40_roleFacts mX40_facts mX40_draft mX40_questions mX40_questionCount mX40_forbidden mX40_given fi1 se1 mX41_names mX41_from mX41_to n1 mX41_codes mX41_least hl1 mX41_others oc1 mX41_named mX62_answers mX62_names mX62_from mX62_to mX62_n mX62_forms qc1 qlg1 mX62_known f11 f21 cd1 A1 G1 nq nF1 FF1 qa ql (updI qS j (S)) qk kf lf rt na cf rf nf nQ sq sf ow → (A1 0 0 = x0 ∧ A1 9 j = b9) → qcBd MC MS kc ks S →
  (∀ (kd2 an2 : Nat → Nat) (ai2 : Nat → Int → Int) (ar2 : Nat → Int → Option Nat) (fi2 se2 n2 hl2 oc2 qc2 qlg2 f12 f22 : Nat → Int) (cd2 : Nat → Option Nat) (kc2 ks2 : Nat) (A2 : Nat → Int → Nat) (G2 : Nat → Nat × Int) (nF2 : Int) (FF2 : Int → qFo), qcM A1 A2 nq nF1 nF2 FF1 FF2 → qcR kd2 an2 ai2 al ar2 mX40_kinds mX40_lefts mX40_rights mX40_axioms mX40_classFacts mX40_roleFacts mX40_facts mX40_draft mX40_questions mX40_questionCount mX40_forbidden mX40_given fi2 se2 mX41_names mX41_from mX41_to n2 mX41_codes mX41_least hl2 mX41_others oc2 mX41_named mX62_answers mX62_names mX62_from mX62_to mX62_n mX62_forms qc2 qlg2 mX62_known f12 f22 cd2 A2 G2 nq nF2 FF2 qa ql (updI qS j (qZ kf lf rt na p i S)) qk kf lf rt na cf rf nf nQ sq sf ow → (A2 0 0 = x0 ∧ A2 9 j = b9) → qcBd MC MS kc2 ks2 (qZ kf lf rt na p i S) → K kd2 an2 ai2 ar2 fi2 se2 n2 hl2 oc2 qc2 qlg2 f12 f22 cd2 kc2 ks2) → wQR_X40_make_112 MC MS K x0 (some b9) mX40_kinds mX40_lefts mX40_rights mX40_axioms mX40_draft mX41_names mX41_from mX41_to mX41_codes mX41_least mX41_others mX41_named mX62_forms (p + 1) i kd1 an1 ai1 ar1 fi1 se1 n1 hl1 oc1 qc1 qlg1 f11 f21 cd1 kc ks := fun p => by
  induction p with
  | zero =>
    intro i S kd1 an1 ai1 ar1 fi1 se1 n1 hl1 oc1 qc1 qlg1 f11 f21 cd1 kc ks A1 G1 nF1 FF1 hp h0 H W B hK
    have H0 := H
    obtain ⟨⟨HL, q0, f0_⟩, Fl, D, HF, HQ, HX, HC, HS⟩ := H
    have k9 : kd1 b9 = 3 := by rw [← W.2]; exact (HL 9 j hj.1 (show j < nq from hj.2)).2.1.1
    obtain ⟨s1, s2, s3, s4, s5⟩ := (HQ j hj.1 hj.2).2.1
    rw [updI_s, W.2] at s1
    rw [updI_s] at s2
    rw [wQR_X40_make_112]
    exact kOn_some ⟨k9, fun _ => hK _ _ _ _ _ _ _ _ _ _ _ _ _ _ kc ks A1 G1 nF1 FF1 qcM.refl H0 W B, fun z => by omega⟩
  | succ p IH =>
    intro i S kd1 an1 ai1 ar1 fi1 se1 n1 hl1 oc1 qc1 qlg1 f11 f21 cd1 kc ks A1 G1 nF1 FF1 hp h0 H W B hK
    have H0 := H
    obtain ⟨⟨HL, q0, f0_⟩, Fl, D, HF, HQ, HX, HC, HS⟩ := H
    have k9 : kd1 b9 = 3 := by rw [← W.2]; exact (HL 9 j hj.1 (show j < nq from hj.2)).2.1.1
    have k11 : kd1 (A1 11 j) = 8 := (HL 11 j hj.1 (show j < nq from hj.2)).2.1.1
    have a11 : an1 (A1 11 j) = 90 := (HL 11 j hj.1 (show j < nq from hj.2)).2.2 (by decide)
    have eFm : mX62_forms b9 = some (A1 11 j) := by rw [← W.2]; exact (HQ j hj.1 hj.2).1.2.1.2.2.2
    obtain ⟨s1, s2, s3, s4, s5⟩ := (HQ j hj.1 hj.2).2.1
    rw [updI_s, W.2] at s1 s3
    rw [updI_s] at s2 s4 s5
    have eZ : qZ kf lf rt na (p + 1) i S = if i < S.1.length ∧ S.2 = 0 then qZ kf lf rt na p (i + 1) (qTn kf lf rt na (S.1.getD i.toNat (0, 0, [])) S) else S := rfl
    rw [wQR_X40_make_112]
    refine kOn_some ⟨k9, fun z => ?_, fun z => ⟨fun l0 => kOn_of eFm ⟨k11, by rw [a11]; omega, fun rr er => ?_⟩, fun l1 => ?_⟩⟩
    · rw [if_neg (by omega)] at eZ
      exact hK _ _ _ _ _ _ _ _ _ _ _ _ _ _ kc ks A1 G1 nF1 FF1 qcM.refl (by rw [eZ]; exact H0) W (by rw [eZ]; exact B)
    · rw [if_pos ⟨by omega, by rw [← s3]; exact l0⟩] at eZ
      obtain ⟨r, hr, et, ft⟩ := s5 i h0 (by omega)
      rw [et] at er
      rw [er]
      have W1 : qcAt A1 nF1 FF1 x0 b9 (A1 12 r) j r (S.1.getD i.toNat (0, 0, [])) := ⟨W.1, W.2, rfl, hr, ft⟩
      refine ⟨_, CQR_m137 hj ((S.1.getD i.toNat (0, 0, [])).2.2.length) 0 S _ _ _ _ _ _ _ _ _ _ _ _ _ _ kc ks A1 G1 nF1 FF1 (by omega) (by omega) H0 W1 B (fun kd2 an2 ai2 ar2 fi2 se2 n2 hl2 oc2 qc2 qlg2 f12 f22 cd2 kc2 ks2 A2 G2 nF2 FF2 M2 R2 W2 B2 => ?_)⟩
      refine ⟨_, CQR_m184 hj ((S.1.getD i.toNat (0, 0, [])).2.2.length) 0 _ _ _ _ _ _ _ _ _ _ _ _ _ _ _ kc2 ks2 A2 G2 nF2 FF2 (by omega) (by omega) R2 W2 B2 (fun kd3 an3 ai3 ar3 fi3 se3 n3 hl3 oc3 qc3 qlg3 f13 f23 cd3 kc3 ks3 A3 G3 nF3 FF3 M3 R3 W3 B3 => ⟨by omega, fun i' ei => ?_⟩)⟩
      rw [ei]
      exact IH (i + 1) (qTn kf lf rt na (S.1.getD i.toNat (0, 0, [])) S) _ _ _ _ _ _ _ _ _ _ _ _ _ _ kc3 ks3 A3 G3 nF3 FF3 (by omega) (by omega) R3 ⟨W3.1, W3.2.1⟩ B3 (fun kd4 an4 ai4 ar4 fi4 se4 n4 hl4 oc4 qc4 qlg4 f14 f24 cd4 kc4 ks4 A4 G4 nF4 FF4 M4 R4 W4 B4 => hK _ _ _ _ _ _ _ _ _ _ _ _ _ _ _ _ A4 G4 nF4 FF4 ((M2.tr M3).tr M4) (by rw [eZ]; exact R4) W4 (by rw [eZ]; exact B4))
    · rw [if_neg (fun w => l1 (by rw [s3]; exact w.2))] at eZ
      exact hK _ _ _ _ _ _ _ _ _ _ _ _ _ _ kc ks A1 G1 nF1 FF1 qcM.refl (by rw [eZ]; exact H0) W (by rw [eZ]; exact B)
end
