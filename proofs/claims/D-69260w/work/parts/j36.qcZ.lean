/-! QlRewrite (room QR): the component does what a call does -/
def qrIC (kd : Nat → Nat) (an : Nat → Nat) (ai : Nat → Int → Int) (al : Nat → Int → Int) (ar : Nat → Int → Option Nat) (mX40_kinds : Nat → Option Nat) (mX40_lefts : Nat → Option Nat) (mX40_rights : Nat → Option Nat) (mX40_axioms : Nat → Int) (mX40_classFacts : Nat → Option Nat) (mX40_roleFacts : Nat → Option Nat) (mX40_facts : Nat → Int) (mX40_draft : Nat → Option Nat) (mX40_questions : Nat → Option Nat) (mX40_questionCount : Nat → Int) (mX40_forbidden : Nat → Option Nat) (mX40_given : Nat → Option Nat) (mX41_first : Nat → Int) (mX41_second : Nat → Int) (mX41_names : Nat → Option Nat) (mX41_from : Nat → Option Nat) (mX41_to : Nat → Option Nat) (mX41_n : Nat → Int) (mX41_codes : Nat → Option Nat) (mX41_least : Nat → Option Nat) (mX41_hasLeast : Nat → Int) (mX41_others : Nat → Option Nat) (mX41_otherCount : Nat → Int) (mX41_named : Nat → Option Nat) (mX62_answers : Nat → Int) (mX62_names : Nat → Option Nat) (mX62_from : Nat → Option Nat) (mX62_to : Nat → Option Nat) (mX62_n : Nat → Int) (mX62_forms : Nat → Option Nat) (mX62_count : Nat → Int) (mX62_large : Nat → Int) (mX62_known : Nat → Int) (mX85_first : Nat → Int) (mX85_second : Nat → Int) (mX85_codes : Nat → Option Nat) (x : Nat) (S : qrT) : Prop := ∃ kf lf rt na cf rf nf nQ QA QL, qcRm kd an ai al ar mX40_kinds mX40_lefts mX40_rights mX40_axioms mX40_classFacts mX40_roleFacts mX40_facts mX40_draft mX40_questions mX40_questionCount mX40_forbidden mX40_given mX41_first mX41_second mX41_names mX41_from mX41_to mX41_n mX41_codes mX41_least mX41_hasLeast mX41_others mX41_otherCount mX41_named mX62_answers mX62_names mX62_from mX62_to mX62_n mX62_forms mX62_count mX62_large mX62_known mX85_first mX85_second mX85_codes x kf lf rt na cf rf nf nQ QA QL ∧ S = qrMk kf lf rt na (qcFa cf rf) nf nQ QA QL
section
variable {kd : Nat → Nat} {an : Nat → Nat} {ai : Nat → Int → Int} {al : Nat → Int → Int} {ar : Nat → Int → Option Nat} {mX40_kinds : Nat → Option Nat} {mX40_lefts : Nat → Option Nat} {mX40_rights : Nat → Option Nat} {mX40_axioms : Nat → Int} {mX40_classFacts : Nat → Option Nat} {mX40_roleFacts : Nat → Option Nat} {mX40_facts : Nat → Int} {mX40_draft : Nat → Option Nat} {mX40_questions : Nat → Option Nat} {mX40_questionCount : Nat → Int} {mX40_forbidden : Nat → Option Nat} {mX40_given : Nat → Option Nat} {mX41_first : Nat → Int} {mX41_second : Nat → Int} {mX41_names : Nat → Option Nat} {mX41_from : Nat → Option Nat} {mX41_to : Nat → Option Nat} {mX41_n : Nat → Int} {mX41_codes : Nat → Option Nat} {mX41_least : Nat → Option Nat} {mX41_hasLeast : Nat → Int} {mX41_others : Nat → Option Nat} {mX41_otherCount : Nat → Int} {mX41_named : Nat → Option Nat} {mX62_answers : Nat → Int} {mX62_names : Nat → Option Nat} {mX62_from : Nat → Option Nat} {mX62_to : Nat → Option Nat} {mX62_n : Nat → Int} {mX62_forms : Nat → Option Nat} {mX62_count : Nat → Int} {mX62_large : Nat → Int} {mX62_known : Nat → Int} {mX85_first : Nat → Int} {mX85_second : Nat → Int} {mX85_codes : Nat → Option Nat} {x : Nat} {S : qrT} {q r w a b k v i z : Int} {MC MS : Nat}
theorem qcRm.nQ {kf lf rt cf rf QA : Int → Int} {na nf nQ : Int} {QL : Int → List qA} (Rm : qcRm kd an ai al ar mX40_kinds mX40_lefts mX40_rights mX40_axioms mX40_classFacts mX40_roleFacts mX40_facts mX40_draft mX40_questions mX40_questionCount mX40_forbidden mX40_given mX41_first mX41_second mX41_names mX41_from mX41_to mX41_n mX41_codes mX41_least mX41_hasLeast mX41_others mX41_otherCount mX41_named mX62_answers mX62_names mX62_from mX62_to mX62_n mX62_forms mX62_count mX62_large mX62_known mX85_first mX85_second mX85_codes x kf lf rt na cf rf nf nQ QA QL) : 0 ≤ nQ ∧ nQ ≤ 6 := by
  obtain ⟨A, G, nq, nF, FF, qa, ql, qS, qk, sq, sf, ow, e0, H, _⟩ := Rm
  exact H.2.2.2.2.2.2.2.1.2
theorem QQR_axiom {post : Int → (Nat → Nat) → (Nat → Nat) → (Nat → Int → Int) → (Nat → Int → Option Nat) → (Nat → Int) → (Nat → Int) → (Nat → Option Nat) → (Nat → Option Nat) → (Nat → Option Nat) → (Nat → Int) → (Nat → Option Nat) → (Nat → Int) → (Nat → Int) → (Nat → Int) → Prop} (R : qrIC kd an ai al ar mX40_kinds mX40_lefts mX40_rights mX40_axioms mX40_classFacts mX40_roleFacts mX40_facts mX40_draft mX40_questions mX40_questionCount mX40_forbidden mX40_given mX41_first mX41_second mX41_names mX41_from mX41_to mX41_n mX41_codes mX41_least mX41_hasLeast mX41_others mX41_otherCount mX41_named mX62_answers mX62_names mX62_from mX62_to mX62_n mX62_forms mX62_count mX62_large mX62_known mX85_first mX85_second mX85_codes x S) (bC : 5 ≤ MC) (bS : 111 ≤ MS) (za : zR a) (zb : zR b) (h : ∀ kd' an' ai' ar' ax' an9' ns' fs' ts' n9' fm' cn' lg' kn', qrIC (kd') (an') (ai') al (ar') mX40_kinds mX40_lefts mX40_rights (ax') mX40_classFacts mX40_roleFacts mX40_facts mX40_draft mX40_questions mX40_questionCount mX40_forbidden mX40_given mX41_first mX41_second mX41_names mX41_from mX41_to mX41_n mX41_codes mX41_least mX41_hasLeast mX41_others mX41_otherCount mX41_named (an9') (ns') (fs') (ts') (n9') (fm') (cn') (lg') (kn') mX85_first mX85_second mX85_codes x ((qqAxiom k a b S).2) → post (qqAxiom k a b S).1 kd' an' ai' ar' ax' an9' ns' fs' ts' n9' fm' cn' lg' kn') : wpQR_X40_axiom MC MS post kd an ai ar mX40_kinds mX40_lefts mX40_rights mX40_axioms mX40_forbidden mX62_answers mX62_names mX62_from mX62_to mX62_n mX62_forms mX62_count mX62_large mX62_known x k a b := by
  obtain ⟨kf, lf, rt, na, cf, rf, nf, nQ, QA, QL, Rm, rfl⟩ := R
  refine CQR_axiom Rm bC bS za zb (fun f => ?_) (fun f z => ?_) (fun f z kd' an' ai' ar' ax' an9' ns' fs' ts' n9' fm' cn' lg' kn' Rm' => ?_)
  · have e : qqAxiom k a b (qrMk kf lf rt na (qcFa cf rf) nf nQ QA QL) = (-1, qrMk kf lf rt na (qcFa cf rf) nf nQ QA QL) := pif_f f
    rw [e] at h
    exact h _ _ _ _ _ _ _ _ _ _ _ _ _ _ ⟨_, _, _, _, _, _, _, _, _, _, Rm, rfl⟩
  · have e : qqAxiom k a b (qrMk kf lf rt na (qcFa cf rf) nf nQ QA QL) = (-2, qrMk kf lf rt na (qcFa cf rf) nf nQ QA QL) := (pif_t f).trans (if_pos z)
    rw [e] at h
    exact h _ _ _ _ _ _ _ _ _ _ _ _ _ _ ⟨_, _, _, _, _, _, _, _, _, _, Rm, rfl⟩
  · have e : qqAxiom k a b (qrMk kf lf rt na (qcFa cf rf) nf nQ QA QL) = (na, qrMk (updI kf na k) (updI lf na a) (updI rt na b) (na + 1) (qcFa cf rf) nf nQ QA QL) := (pif_t f).trans (if_neg (by omega))
    rw [e] at h
    exact h _ _ _ _ _ _ _ _ _ _ _ _ _ _ ⟨_, _, _, _, _, _, _, _, _, _, Rm', rfl⟩
theorem QQR_fact {post : Int → (Nat → Int → Int) → (Nat → Int) → Prop} (R : qrIC kd an ai al ar mX40_kinds mX40_lefts mX40_rights mX40_axioms mX40_classFacts mX40_roleFacts mX40_facts mX40_draft mX40_questions mX40_questionCount mX40_forbidden mX40_given mX41_first mX41_second mX41_names mX41_from mX41_to mX41_n mX41_codes mX41_least mX41_hasLeast mX41_others mX41_otherCount mX41_named mX62_answers mX62_names mX62_from mX62_to mX62_n mX62_forms mX62_count mX62_large mX62_known mX85_first mX85_second mX85_codes x S) (h : ∀ ai' fc', qrIC kd an (ai') al ar mX40_kinds mX40_lefts mX40_rights mX40_axioms mX40_classFacts mX40_roleFacts (fc') mX40_draft mX40_questions mX40_questionCount mX40_forbidden mX40_given mX41_first mX41_second mX41_names mX41_from mX41_to mX41_n mX41_codes mX41_least mX41_hasLeast mX41_others mX41_otherCount mX41_named mX62_answers mX62_names mX62_from mX62_to mX62_n mX62_forms mX62_count mX62_large mX62_known mX85_first mX85_second mX85_codes x ((qqFact r w a b S).2) → post (qqFact r w a b S).1 ai' fc') : wpQR_X40_fact post kd an ai mX40_classFacts mX40_roleFacts mX40_facts x r w a b := by
  obtain ⟨kf, lf, rt, na, cf, rf, nf, nQ, QA, QL, Rm, rfl⟩ := R
  refine CQR_fact Rm (fun f => ?_) (fun f m => ?_) (fun f m z => ?_) (fun f m z ai' fc' Rm' => ?_)
  · have e : qqFact r w a b (qrMk kf lf rt na (qcFa cf rf) nf nQ QA QL) = (-1, qrMk kf lf rt na (qcFa cf rf) nf nQ QA QL) := pif_f f
    rw [e] at h
    exact h _ _ ⟨_, _, _, _, _, _, _, _, _, _, Rm, rfl⟩
  · have e : qqFact r w a b (qrMk kf lf rt na (qcFa cf rf) nf nQ QA QL) = (0, qrMk kf lf rt na (qcFa cf rf) nf nQ QA QL) := (pif_t f).trans (pif_t m)
    rw [e] at h
    exact h _ _ ⟨_, _, _, _, _, _, _, _, _, _, Rm, rfl⟩
  · have e : qqFact r w a b (qrMk kf lf rt na (qcFa cf rf) nf nQ QA QL) = (-2, qrMk kf lf rt na (qcFa cf rf) nf nQ QA QL) := (pif_t f).trans ((pif_f m).trans (if_pos z))
    rw [e] at h
    exact h _ _ ⟨_, _, _, _, _, _, _, _, _, _, Rm, rfl⟩
  · have e : qqFact r w a b (qrMk kf lf rt na (qcFa cf rf) nf nQ QA QL) = (1, qrMk kf lf rt na (qrAd (qcFa cf rf) (qCc r w) a (if r = 0 then 0 else b)) (nf + 1) nQ QA QL) := (pif_t f).trans ((pif_f m).trans (if_neg z))
    rw [e, ← qrAd_c f] at h
    exact h _ _ ⟨_, _, _, _, _, _, _, _, _, _, Rm', rfl⟩
theorem QQR_forget {post : Int → (Nat → Int → Int) → (Nat → Int) → Prop} (R : qrIC kd an ai al ar mX40_kinds mX40_lefts mX40_rights mX40_axioms mX40_classFacts mX40_roleFacts mX40_facts mX40_draft mX40_questions mX40_questionCount mX40_forbidden mX40_given mX41_first mX41_second mX41_names mX41_from mX41_to mX41_n mX41_codes mX41_least mX41_hasLeast mX41_others mX41_otherCount mX41_named mX62_answers mX62_names mX62_from mX62_to mX62_n mX62_forms mX62_count mX62_large mX62_known mX85_first mX85_second mX85_codes x S) (h : ∀ ai' fc', qrIC kd an (ai') al ar mX40_kinds mX40_lefts mX40_rights mX40_axioms mX40_classFacts mX40_roleFacts (fc') mX40_draft mX40_questions mX40_questionCount mX40_forbidden mX40_given mX41_first mX41_second mX41_names mX41_from mX41_to mX41_n mX41_codes mX41_least mX41_hasLeast mX41_others mX41_otherCount mX41_named mX62_answers mX62_names mX62_from mX62_to mX62_n mX62_forms mX62_count mX62_large mX62_known mX85_first mX85_second mX85_codes x ((qqForget r w a b S).2) → post (qqForget r w a b S).1 ai' fc') : wpQR_X40_forget post kd an ai mX40_classFacts mX40_roleFacts mX40_facts x r w a b := by
  obtain ⟨kf, lf, rt, na, cf, rf, nf, nQ, QA, QL, Rm, rfl⟩ := R
  refine CQR_forget Rm (fun f => ?_) (fun f m => ?_) (fun f m ai' fc' Rm' => ?_)
  · have e : qqForget r w a b (qrMk kf lf rt na (qcFa cf rf) nf nQ QA QL) = (-1, qrMk kf lf rt na (qcFa cf rf) nf nQ QA QL) := pif_f f
    rw [e] at h
    exact h _ _ ⟨_, _, _, _, _, _, _, _, _, _, Rm, rfl⟩
  · have e : qqForget r w a b (qrMk kf lf rt na (qcFa cf rf) nf nQ QA QL) = (0, qrMk kf lf rt na (qcFa cf rf) nf nQ QA QL) := (pif_t f).trans (pif_f m)
    rw [e] at h
    exact h _ _ ⟨_, _, _, _, _, _, _, _, _, _, Rm, rfl⟩
  · have e : qqForget r w a b (qrMk kf lf rt na (qcFa cf rf) nf nQ QA QL) = (1, qrMk kf lf rt na (qrRm (qcFa cf rf) (qCc r w) a (if r = 0 then 0 else b)) (nf - 1) nQ QA QL) := (pif_t f).trans (pif_t m)
    rw [e, ← qrRm_c f] at h
    exact h _ _ ⟨_, _, _, _, _, _, _, _, _, _, Rm', rfl⟩
theorem QQR_question {post : Int → (Nat → Nat) → (Nat → Nat) → (Nat → Int → Int) → (Nat → Int → Option Nat) → (Nat → Int) → (Nat → Int) → (Nat → Option Nat) → (Nat → Option Nat) → (Nat → Option Nat) → (Nat → Int) → (Nat → Option Nat) → (Nat → Int) → (Nat → Int) → (Nat → Int) → Prop} (R : qrIC kd an ai al ar mX40_kinds mX40_lefts mX40_rights mX40_axioms mX40_classFacts mX40_roleFacts mX40_facts mX40_draft mX40_questions mX40_questionCount mX40_forbidden mX40_given mX41_first mX41_second mX41_names mX41_from mX41_to mX41_n mX41_codes mX41_least mX41_hasLeast mX41_others mX41_otherCount mX41_named mX62_answers mX62_names mX62_from mX62_to mX62_n mX62_forms mX62_count mX62_large mX62_known mX85_first mX85_second mX85_codes x S) (bC : 5 ≤ MC) (bS : 111 ≤ MS) (h : ∀ kd' an' ai' ar' qc' an9' ns' fs' ts' n9' fm' cn' lg' kn', qrIC (kd') (an') (ai') al (ar') mX40_kinds mX40_lefts mX40_rights mX40_axioms mX40_classFacts mX40_roleFacts mX40_facts mX40_draft mX40_questions (qc') mX40_forbidden mX40_given mX41_first mX41_second mX41_names mX41_from mX41_to mX41_n mX41_codes mX41_least mX41_hasLeast mX41_others mX41_otherCount mX41_named (an9') (ns') (fs') (ts') (n9') (fm') (cn') (lg') (kn') mX85_first mX85_second mX85_codes x ((qqQuestion v S).2) → post (qqQuestion v S).1 kd' an' ai' ar' qc' an9' ns' fs' ts' n9' fm' cn' lg' kn') : wpQR_X40_question MC MS post kd an ai ar mX40_questions mX40_questionCount mX62_answers mX62_names mX62_from mX62_to mX62_n mX62_forms mX62_count mX62_large mX62_known x v := by
  obtain ⟨kf, lf, rt, na, cf, rf, nf, nQ, QA, QL, Rm, rfl⟩ := R
  have Rm0 := Rm
  refine CQR_question Rm bC bS (fun f => ?_) (fun f z => ?_) (fun f z kd' an' ai' ar' qc' an9' ns' fs' ts' n9' fm' cn' lg' kn' Rm' => ?_)
  · rw [qqQuestion_1 f] at h
    exact h _ _ _ _ _ _ _ _ _ _ _ _ _ _ ⟨_, _, _, _, _, _, _, _, _, _, Rm, rfl⟩
  · rw [qqQuestion_2 f z] at h
    exact h _ _ _ _ _ _ _ _ _ _ _ _ _ _ ⟨_, _, _, _, _, _, _, _, _, _, Rm, rfl⟩
  · rw [qqQuestion_3 (QA' := updI QA nQ v) (QL' := updI QL nQ []) f (qcRm.nQ Rm0).1 (by omega) (fun q q0 q1 => ⟨updI_n (by omega), updI_n (by omega)⟩) updI_s updI_s] at h
    exact h _ _ _ _ _ _ _ _ _ _ _ _ _ _ ⟨_, _, _, _, _, _, _, _, _, _, Rm', rfl⟩
theorem QQR_atom {post : Int → (Nat → Int → Int) → (Nat → Int) → (Nat → Int) → Prop} (R : qrIC kd an ai al ar mX40_kinds mX40_lefts mX40_rights mX40_axioms mX40_classFacts mX40_roleFacts mX40_facts mX40_draft mX40_questions mX40_questionCount mX40_forbidden mX40_given mX41_first mX41_second mX41_names mX41_from mX41_to mX41_n mX41_codes mX41_least mX41_hasLeast mX41_others mX41_otherCount mX41_named mX62_answers mX62_names mX62_from mX62_to mX62_n mX62_forms mX62_count mX62_large mX62_known mX85_first mX85_second mX85_codes x S) (h : ∀ ai' n9' kn', qrIC kd an (ai') al ar mX40_kinds mX40_lefts mX40_rights mX40_axioms mX40_classFacts mX40_roleFacts mX40_facts mX40_draft mX40_questions mX40_questionCount mX40_forbidden mX40_given mX41_first mX41_second mX41_names mX41_from mX41_to mX41_n mX41_codes mX41_least mX41_hasLeast mX41_others mX41_otherCount mX41_named mX62_answers mX62_names mX62_from mX62_to (n9') mX62_forms mX62_count mX62_large (kn') mX85_first mX85_second mX85_codes x ((qqAtom q r w a b S).2) → post (qqAtom q r w a b S).1 ai' n9' kn') : wpQR_X40_atom post kd an ai ar mX40_questions mX40_questionCount mX62_names mX62_from mX62_to mX62_n mX62_known x q r w a b := by
  obtain ⟨kf, lf, rt, na, cf, rf, nf, nQ, QA, QL, Rm, rfl⟩ := R
  refine CQR_atom Rm (fun f => ?_) (fun f m => ?_) (fun f m l => ?_) (fun f m l ai' n9' kn' Rm' => ?_)
  · rw [qqAtom_1 f] at h
    exact h _ _ _ ⟨_, _, _, _, _, _, _, _, _, _, Rm, rfl⟩
  · rw [qqAtom_2 f m] at h
    exact h _ _ _ ⟨_, _, _, _, _, _, _, _, _, _, Rm, rfl⟩
  · rw [qqAtom_3 f m l] at h
    exact h _ _ _ ⟨_, _, _, _, _, _, _, _, _, _, Rm, rfl⟩
  · rw [qqAtom_4 (QA' := QA) (QL' := updI QL q (QL q ++ [(qCc r w, 8 + a, if r = 0 then 7 else 8 + b)])) f m l (fun _ _ _ => rfl) (fun p _ _ ne => updI_n ne) updI_s] at h
    exact h _ _ _ ⟨_, _, _, _, _, _, _, _, _, _, Rm', rfl⟩
theorem QQR_forms {post : Int → (Nat → Nat) → (Nat → Nat) → (Nat → Int → Int) → (Nat → Int → Option Nat) → (Nat → Int) → (Nat → Int) → (Nat → Int) → (Nat → Int) → (Nat → Int) → (Nat → Int) → (Nat → Int) → (Nat → Int) → (Nat → Int) → (Nat → Int) → (Nat → Option Nat) → Prop} (R : qrIC kd an ai al ar mX40_kinds mX40_lefts mX40_rights mX40_axioms mX40_classFacts mX40_roleFacts mX40_facts mX40_draft mX40_questions mX40_questionCount mX40_forbidden mX40_given mX41_first mX41_second mX41_names mX41_from mX41_to mX41_n mX41_codes mX41_least mX41_hasLeast mX41_others mX41_otherCount mX41_named mX62_answers mX62_names mX62_from mX62_to mX62_n mX62_forms mX62_count mX62_large mX62_known mX85_first mX85_second mX85_codes x S) (bC : 180 ≤ MC) (bS : 630 ≤ MS) (h : ∀ kd' an' ai' ar' fi' se' n' hl' oc' qc' qlg' kn' f1' f2' cd', qrIC (kd') (an') (ai') al (ar') mX40_kinds mX40_lefts mX40_rights mX40_axioms mX40_classFacts mX40_roleFacts mX40_facts mX40_draft mX40_questions mX40_questionCount mX40_forbidden mX40_given (fi') (se') mX41_names mX41_from mX41_to (n') mX41_codes mX41_least (hl') mX41_others (oc') mX41_named mX62_answers mX62_names mX62_from mX62_to mX62_n mX62_forms (qc') (qlg') (kn') (f1') (f2') (cd') x S → post (qqForms q S) kd' an' ai' ar' fi' se' n' hl' oc' qc' qlg' kn' f1' f2' cd') : wpQR_X40_forms MC MS post kd an ai ar mX40_kinds mX40_lefts mX40_rights mX40_axioms mX40_draft mX40_questions mX40_questionCount mX41_first mX41_second mX41_names mX41_from mX41_to mX41_n mX41_codes mX41_least mX41_hasLeast mX41_others mX41_otherCount mX41_named mX62_answers mX62_names mX62_from mX62_to mX62_n mX62_forms mX62_count mX62_large mX62_known mX85_first mX85_second mX85_codes x q := by
  obtain ⟨kf, lf, rt, na, cf, rf, nf, nQ, QA, QL, Rm, rfl⟩ := R
  refine CQR_forms Rm bC bS (fun kd' an' ai' ar' fi' se' n' hl' oc' qc' qlg' kn' f1' f2' cd' Rm' => ?_)
  have G := h kd' an' ai' ar' fi' se' n' hl' oc' qc' qlg' kn' f1' f2' cd' ⟨_, _, _, _, _, _, _, _, _, _, Rm', rfl⟩
  unfold qqForms at G
  rw [qqTold_e] at G
  exact G
theorem QQR_form {post : Int → (Nat → Nat) → (Nat → Nat) → (Nat → Int → Int) → (Nat → Int → Option Nat) → (Nat → Int) → (Nat → Int) → (Nat → Int) → (Nat → Int) → (Nat → Int) → (Nat → Int) → (Nat → Int) → (Nat → Int) → (Nat → Int) → (Nat → Int) → (Nat → Option Nat) → Prop} (R : qrIC kd an ai al ar mX40_kinds mX40_lefts mX40_rights mX40_axioms mX40_classFacts mX40_roleFacts mX40_facts mX40_draft mX40_questions mX40_questionCount mX40_forbidden mX40_given mX41_first mX41_second mX41_names mX41_from mX41_to mX41_n mX41_codes mX41_least mX41_hasLeast mX41_others mX41_otherCount mX41_named mX62_answers mX62_names mX62_from mX62_to mX62_n mX62_forms mX62_count mX62_large mX62_known mX85_first mX85_second mX85_codes x S) (bC : 180 ≤ MC) (bS : 630 ≤ MS) (h : ∀ kd' an' ai' ar' fi' se' n' hl' oc' qc' qlg' kn' f1' f2' cd', qrIC (kd') (an') (ai') al (ar') mX40_kinds mX40_lefts mX40_rights mX40_axioms mX40_classFacts mX40_roleFacts mX40_facts mX40_draft mX40_questions mX40_questionCount mX40_forbidden mX40_given (fi') (se') mX41_names mX41_from mX41_to (n') mX41_codes mX41_least (hl') mX41_others (oc') mX41_named mX62_answers mX62_names mX62_from mX62_to mX62_n mX62_forms (qc') (qlg') (kn') (f1') (f2') (cd') x S → post (qqForm q i w S) kd' an' ai' ar' fi' se' n' hl' oc' qc' qlg' kn' f1' f2' cd') : wpQR_X40_form MC MS post kd an ai ar mX40_kinds mX40_lefts mX40_rights mX40_axioms mX40_draft mX40_questions mX40_questionCount mX41_first mX41_second mX41_names mX41_from mX41_to mX41_n mX41_codes mX41_least mX41_hasLeast mX41_others mX41_otherCount mX41_named mX62_answers mX62_names mX62_from mX62_to mX62_n mX62_forms mX62_count mX62_large mX62_known mX85_first mX85_second mX85_codes x q i w := by
  obtain ⟨kf, lf, rt, na, cf, rf, nf, nQ, QA, QL, Rm, rfl⟩ := R
  refine CQR_form Rm bC bS (fun kd' an' ai' ar' fi' se' n' hl' oc' qc' qlg' kn' f1' f2' cd' Rm' => ?_)
  have G := h kd' an' ai' ar' fi' se' n' hl' oc' qc' qlg' kn' f1' f2' cd' ⟨_, _, _, _, _, _, _, _, _, _, Rm', rfl⟩
  unfold qqForm at G
  rw [qqTold_e] at G
  exact G
theorem QQR_run {post : Int → (Nat → Nat) → (Nat → Nat) → (Nat → Int → Int) → (Nat → Int → Option Nat) → (Nat → Int) → (Nat → Int) → (Nat → Int) → (Nat → Int) → (Nat → Int) → (Nat → Int) → (Nat → Int) → (Nat → Int) → (Nat → Int) → (Nat → Int) → (Nat → Option Nat) → Prop} (R : qrIC kd an ai al ar mX40_kinds mX40_lefts mX40_rights mX40_axioms mX40_classFacts mX40_roleFacts mX40_facts mX40_draft mX40_questions mX40_questionCount mX40_forbidden mX40_given mX41_first mX41_second mX41_names mX41_from mX41_to mX41_n mX41_codes mX41_least mX41_hasLeast mX41_others mX41_otherCount mX41_named mX62_answers mX62_names mX62_from mX62_to mX62_n mX62_forms mX62_count mX62_large mX62_known mX85_first mX85_second mX85_codes x S) (bC : 180 ≤ MC) (bS : 630 ≤ MS) (h : ∀ kd' an' ai' ar' fi' se' n' hl' oc' qc' qlg' kn' f1' f2' cd', qrIC (kd') (an') (ai') al (ar') mX40_kinds mX40_lefts mX40_rights mX40_axioms mX40_classFacts mX40_roleFacts mX40_facts mX40_draft mX40_questions mX40_questionCount mX40_forbidden mX40_given (fi') (se') mX41_names mX41_from mX41_to (n') mX41_codes mX41_least (hl') mX41_others (oc') mX41_named mX62_answers mX62_names mX62_from mX62_to mX62_n mX62_forms (qc') (qlg') (kn') (f1') (f2') (cd') x S → post (qqRun q S) kd' an' ai' ar' fi' se' n' hl' oc' qc' qlg' kn' f1' f2' cd') : wpQR_X40_run MC MS post kd an ai ar mX40_kinds mX40_lefts mX40_rights mX40_axioms mX40_classFacts mX40_roleFacts mX40_draft mX40_questions mX40_questionCount mX40_given mX41_first mX41_second mX41_names mX41_from mX41_to mX41_n mX41_codes mX41_least mX41_hasLeast mX41_others mX41_otherCount mX41_named mX62_answers mX62_names mX62_from mX62_to mX62_n mX62_forms mX62_count mX62_large mX62_known mX85_first mX85_second mX85_codes x q := by
  obtain ⟨kf, lf, rt, na, cf, rf, nf, nQ, QA, QL, Rm, rfl⟩ := R
  refine CQR_run Rm bC bS (fun kd' an' ai' ar' fi' se' n' hl' oc' qc' qlg' kn' f1' f2' cd' Rm' => ?_)
  have G := h kd' an' ai' ar' fi' se' n' hl' oc' qc' qlg' kn' f1' f2' cd' ⟨_, _, _, _, _, _, _, _, _, _, Rm', rfl⟩
  unfold qqRun at G
  rw [qqTold_e] at G
  exact G
theorem QQR_answer {post : Int → (Nat → Nat) → (Nat → Nat) → (Nat → Int → Int) → (Nat → Int → Option Nat) → (Nat → Int) → (Nat → Int) → (Nat → Int) → (Nat → Int) → (Nat → Int) → (Nat → Int) → (Nat → Int) → (Nat → Int) → (Nat → Int) → (Nat → Int) → (Nat → Option Nat) → Prop} (R : qrIC kd an ai al ar mX40_kinds mX40_lefts mX40_rights mX40_axioms mX40_classFacts mX40_roleFacts mX40_facts mX40_draft mX40_questions mX40_questionCount mX40_forbidden mX40_given mX41_first mX41_second mX41_names mX41_from mX41_to mX41_n mX41_codes mX41_least mX41_hasLeast mX41_others mX41_otherCount mX41_named mX62_answers mX62_names mX62_from mX62_to mX62_n mX62_forms mX62_count mX62_large mX62_known mX85_first mX85_second mX85_codes x S) (bC : 180 ≤ MC) (bS : 630 ≤ MS) (h : ∀ kd' an' ai' ar' fi' se' n' hl' oc' qc' qlg' kn' f1' f2' cd', qrIC (kd') (an') (ai') al (ar') mX40_kinds mX40_lefts mX40_rights mX40_axioms mX40_classFacts mX40_roleFacts mX40_facts mX40_draft mX40_questions mX40_questionCount mX40_forbidden mX40_given (fi') (se') mX41_names mX41_from mX41_to (n') mX41_codes mX41_least (hl') mX41_others (oc') mX41_named mX62_answers mX62_names mX62_from mX62_to mX62_n mX62_forms (qc') (qlg') (kn') (f1') (f2') (cd') x S → post (qqAnswer q i S) kd' an' ai' ar' fi' se' n' hl' oc' qc' qlg' kn' f1' f2' cd') : wpQR_X40_answer MC MS post kd an ai ar mX40_kinds mX40_lefts mX40_rights mX40_axioms mX40_classFacts mX40_roleFacts mX40_draft mX40_questions mX40_questionCount mX40_given mX41_first mX41_second mX41_names mX41_from mX41_to mX41_n mX41_codes mX41_least mX41_hasLeast mX41_others mX41_otherCount mX41_named mX62_answers mX62_names mX62_from mX62_to mX62_n mX62_forms mX62_count mX62_large mX62_known mX85_first mX85_second mX85_codes x q i := by
  obtain ⟨kf, lf, rt, na, cf, rf, nf, nQ, QA, QL, Rm, rfl⟩ := R
  refine CQR_answer Rm bC bS (fun kd' an' ai' ar' fi' se' n' hl' oc' qc' qlg' kn' f1' f2' cd' Rm' => ?_)
  have G := h kd' an' ai' ar' fi' se' n' hl' oc' qc' qlg' kn' f1' f2' cd' ⟨_, _, _, _, _, _, _, _, _, _, Rm', rfl⟩
  unfold qqAnswer at G
  rw [qqTold_e] at G
  exact G
theorem QQR_why {post : Int → (Nat → Nat) → (Nat → Nat) → (Nat → Int → Int) → (Nat → Int → Option Nat) → (Nat → Int) → (Nat → Int) → (Nat → Int) → (Nat → Int) → (Nat → Int) → (Nat → Int) → (Nat → Int) → (Nat → Int) → (Nat → Int) → (Nat → Int) → (Nat → Option Nat) → Prop} (R : qrIC kd an ai al ar mX40_kinds mX40_lefts mX40_rights mX40_axioms mX40_classFacts mX40_roleFacts mX40_facts mX40_draft mX40_questions mX40_questionCount mX40_forbidden mX40_given mX41_first mX41_second mX41_names mX41_from mX41_to mX41_n mX41_codes mX41_least mX41_hasLeast mX41_others mX41_otherCount mX41_named mX62_answers mX62_names mX62_from mX62_to mX62_n mX62_forms mX62_count mX62_large mX62_known mX85_first mX85_second mX85_codes x S) (bC : 180 ≤ MC) (bS : 630 ≤ MS) (h : ∀ kd' an' ai' ar' fi' se' n' hl' oc' qc' qlg' kn' f1' f2' cd', qrIC (kd') (an') (ai') al (ar') mX40_kinds mX40_lefts mX40_rights mX40_axioms mX40_classFacts mX40_roleFacts mX40_facts mX40_draft mX40_questions mX40_questionCount mX40_forbidden mX40_given (fi') (se') mX41_names mX41_from mX41_to (n') mX41_codes mX41_least (hl') mX41_others (oc') mX41_named mX62_answers mX62_names mX62_from mX62_to mX62_n mX62_forms (qc') (qlg') (kn') (f1') (f2') (cd') x S → post (qqWhy q z S) kd' an' ai' ar' fi' se' n' hl' oc' qc' qlg' kn' f1' f2' cd') : wpQR_X40_why MC MS post kd an ai ar mX40_kinds mX40_lefts mX40_rights mX40_axioms mX40_classFacts mX40_roleFacts mX40_draft mX40_questions mX40_questionCount mX40_given mX41_first mX41_second mX41_names mX41_from mX41_to mX41_n mX41_codes mX41_least mX41_hasLeast mX41_others mX41_otherCount mX41_named mX62_answers mX62_names mX62_from mX62_to mX62_n mX62_forms mX62_count mX62_large mX62_known mX85_first mX85_second mX85_codes x q z := by
  obtain ⟨kf, lf, rt, na, cf, rf, nf, nQ, QA, QL, Rm, rfl⟩ := R
  refine CQR_why Rm bC bS (fun kd' an' ai' ar' fi' se' n' hl' oc' qc' qlg' kn' f1' f2' cd' Rm' => ?_)
  have G := h kd' an' ai' ar' fi' se' n' hl' oc' qc' qlg' kn' f1' f2' cd' ⟨_, _, _, _, _, _, _, _, _, _, Rm', rfl⟩
  unfold qqWhy at G
  rw [qqTold_e] at G
  exact G
theorem QQR_broken {post : Int → (Nat → Nat) → (Nat → Nat) → (Nat → Int → Int) → (Nat → Int → Option Nat) → (Nat → Int) → (Nat → Int) → (Nat → Int) → (Nat → Int) → (Nat → Int) → (Nat → Int) → (Nat → Int) → (Nat → Int) → (Nat → Int) → (Nat → Int) → (Nat → Option Nat) → Prop} (R : qrIC kd an ai al ar mX40_kinds mX40_lefts mX40_rights mX40_axioms mX40_classFacts mX40_roleFacts mX40_facts mX40_draft mX40_questions mX40_questionCount mX40_forbidden mX40_given mX41_first mX41_second mX41_names mX41_from mX41_to mX41_n mX41_codes mX41_least mX41_hasLeast mX41_others mX41_otherCount mX41_named mX62_answers mX62_names mX62_from mX62_to mX62_n mX62_forms mX62_count mX62_large mX62_known mX85_first mX85_second mX85_codes x S) (bC : 2880 ≤ MC) (bS : 10080 ≤ MS) (h : ∀ kd' an' ai' ar' fi' se' n' hl' oc' qc' qlg' kn' f1' f2' cd', qrIC (kd') (an') (ai') al (ar') mX40_kinds mX40_lefts mX40_rights mX40_axioms mX40_classFacts mX40_roleFacts mX40_facts mX40_draft mX40_questions mX40_questionCount mX40_forbidden mX40_given (fi') (se') mX41_names mX41_from mX41_to (n') mX41_codes mX41_least (hl') mX41_others (oc') mX41_named mX62_answers mX62_names mX62_from mX62_to mX62_n mX62_forms (qc') (qlg') (kn') (f1') (f2') (cd') x S → post (qqBroken S) kd' an' ai' ar' fi' se' n' hl' oc' qc' qlg' kn' f1' f2' cd') : wpQR_X40_broken MC MS post kd an ai ar mX40_kinds mX40_lefts mX40_rights mX40_axioms mX40_classFacts mX40_roleFacts mX40_draft mX40_forbidden mX40_given mX41_first mX41_second mX41_names mX41_from mX41_to mX41_n mX41_codes mX41_least mX41_hasLeast mX41_others mX41_otherCount mX41_named mX62_answers mX62_names mX62_from mX62_to mX62_n mX62_forms mX62_count mX62_large mX62_known mX85_first mX85_second mX85_codes x := by
  obtain ⟨kf, lf, rt, na, cf, rf, nf, nQ, QA, QL, Rm, rfl⟩ := R
  exact CQR_broken Rm bC bS (fun kd' an' ai' ar' fi' se' n' hl' oc' qc' qlg' kn' f1' f2' cd' Rm' => h kd' an' ai' ar' fi' se' n' hl' oc' qc' qlg' kn' f1' f2' cd' ⟨_, _, _, _, _, _, _, _, _, _, Rm', rfl⟩)
theorem QQR_count {post : Int → Prop} (R : qrIC kd an ai al ar mX40_kinds mX40_lefts mX40_rights mX40_axioms mX40_classFacts mX40_roleFacts mX40_facts mX40_draft mX40_questions mX40_questionCount mX40_forbidden mX40_given mX41_first mX41_second mX41_names mX41_from mX41_to mX41_n mX41_codes mX41_least mX41_hasLeast mX41_others mX41_otherCount mX41_named mX62_answers mX62_names mX62_from mX62_to mX62_n mX62_forms mX62_count mX62_large mX62_known mX85_first mX85_second mX85_codes x S) (h : post (qqCount w S)) : wpQR_X40_count post mX40_axioms mX40_facts mX40_questionCount x w := by
  obtain ⟨kf, lf, rt, na, cf, rf, nf, nQ, QA, QL, Rm, rfl⟩ := R
  exact CQR_count Rm h
theorem QQR_clear {post : Int → (Nat → Int) → Prop} (R : qrIC kd an ai al ar mX40_kinds mX40_lefts mX40_rights mX40_axioms mX40_classFacts mX40_roleFacts mX40_facts mX40_draft mX40_questions mX40_questionCount mX40_forbidden mX40_given mX41_first mX41_second mX41_names mX41_from mX41_to mX41_n mX41_codes mX41_least mX41_hasLeast mX41_others mX41_otherCount mX41_named mX62_answers mX62_names mX62_from mX62_to mX62_n mX62_forms mX62_count mX62_large mX62_known mX85_first mX85_second mX85_codes x S) (h : ∀ qn', qrIC kd an ai al ar mX40_kinds mX40_lefts mX40_rights mX40_axioms mX40_classFacts mX40_roleFacts mX40_facts mX40_draft mX40_questions (qn') mX40_forbidden mX40_given mX41_first mX41_second mX41_names mX41_from mX41_to mX41_n mX41_codes mX41_least mX41_hasLeast mX41_others mX41_otherCount mX41_named mX62_answers mX62_names mX62_from mX62_to mX62_n mX62_forms mX62_count mX62_large mX62_known mX85_first mX85_second mX85_codes x ((qqClear S).2) → post (qqClear S).1 qn') : wpQR_X40_clear post mX40_questionCount x := by
  obtain ⟨kf, lf, rt, na, cf, rf, nf, nQ, QA, QL, Rm, rfl⟩ := R
  rw [qqClear_e (QA' := QA) (QL' := QL)] at h
  exact CQR_clear Rm (fun qn' Rm' => h _ ⟨_, _, _, _, _, _, _, _, _, _, Rm', rfl⟩)
end

/-! QlRewrite: the reference (X56) does what a call does -/
def qrLs (sz qn qf qt : Int → Int) : Int → List qA := fun q => (aF (qAr qn qf qt) (4 * q) (sz q).toNat).map (qTr qcDn)
def qrIR (kd lf rt : Int → Int) (na : Int) (fn fa fb : Int → Int) (nf : Int) (an sz qn qf qt : Int → Int) (nq : Int) (fs ff fg fc : Int → Int) (m lg lk fd : Int) (fo : Int → Int) (S : qrT) : Prop :=
  qAi kd lf rt na ∧ qFI fn fa fb nf ∧ qFd fn fa fb nf ∧ qQI an sz qn qf qt nq ∧ qCh kd lf rt na (qFa fn fa fb nf) an sz qn qf qt fs ff fg fc m lg lk fd fo ∧ S = qrMk kd lf rt na (qFa fn fa fb nf) nf nq an (qrLs sz qn qf qt)
section
variable {nm fr to ot co le fs ff fg fc fo th rw_ sA sB kd lf rt fn fa fb an sz qn qf qt an' sz' qn' qf' qt' : Int → Int} {a b c n v w k x y m oc lg lk fd na nf nq q r h i z p : Int} {Fa : Int → Int → Int → Prop} {S : qrT} {l : List qA}
theorem qrLs_u : (qrLs sz qn qf qt q).map (qTr qcUp) = aF (qAr qn qf qt) (4 * q) (sz q).toNat := qTr_map qcDn_u
theorem qrLs_0 (h : 0 ≤ sz q) : qrLs sz qn qf qt q = [] ↔ sz q = 0 := by
  unfold qrLs
  rw [List.map_eq_nil_iff]
  constructor
  · intro e
    have := congrArg List.length e
    rw [aF_len] at this
    simp at this
    omega
  · intro e
    rw [e]
    rfl
theorem qrLs_len (h : 0 ≤ sz q) : ((qrLs sz qn qf qt q).length : Int) = sz q := by
  unfold qrLs
  rw [List.length_map, aF_len]
  omega
theorem qrZ : qcZ kd lf rt na (an q) (qrLs sz qn qf qt q) = qQz kd lf rt na (an q) (aF (qAr qn qf qt) (4 * q) (sz q).toNat) := by
  rw [qcZ_e, qrLs_u]
theorem qrTl (hQ : qQI an sz qn qf qt nq) {Z : qSS} {u : Int} : qTl ((0 ≤ q ∧ q < nq) ∧ ¬ qrLs sz qn qf qt q = []) Z u = qTl (qRdy sz nq q) Z u := by
  unfold qTl qRdy
  refine pif_c ?_
  refine and_congr_right (fun h => ?_)
  rw [qrLs_0 (hQ.2 q h.1 h.2).2.1.1]
theorem qrHs (ha : 0 ≤ a ∧ a < 8) (hs : 0 ≤ sz q) (hb : (x = 7 ∧ y = 7) ∨ (0 ≤ b ∧ b < 8 ∧ x = 10 + b ∧ y = 8 + b)) : qHs sz qn qf qt q c (10 + a) x ↔ (c, 8 + a, y) ∈ qrLs sz qn qf qt q := by
  have u1 : qcUp (8 + a) = 10 + a := by
    unfold qcUp
    rw [if_pos (by omega)]
    omega
  have u2 : qcUp y = x := by
    rcases hb with ⟨e1, e2⟩ | ⟨b0, b1, e1, e2⟩
    · rw [e1, e2]; decide
    · unfold qcUp
      rw [if_pos (by omega)]
      omega
  have d1 : qcDn (10 + a) = 8 + a := by rw [← u1, qcUp_d]
  have d2 : qcDn x = y := by rw [← u2, qcUp_d]
  unfold qHs qrLs
  rw [List.mem_map]
  constructor
  · rintro ⟨k, hk, e1, e2, e3⟩
    refine ⟨qAr qn qf qt (4 * q + k), (aF_mem _ _).2 ⟨4 * q + k, by omega, rfl⟩, ?_⟩
    show (qn (4 * q + k), qcDn (qf (4 * q + k)), qcDn (qt (4 * q + k))) = _
    rw [e1, e2, e3, d1, d2]
  · rintro ⟨t, ht, e⟩
    obtain ⟨j, hj, rfl⟩ := (aF_mem _ _).1 ht
    have e' : (qn j, qcDn (qf j), qcDn (qt j)) = (c, 8 + a, y) := e
    have g1 := congrArg (fun s : qA => s.1) e'
    have g2 := congrArg (fun s : qA => s.2.1) e'
    have g3 := congrArg (fun s : qA => s.2.2) e'
    dsimp only at g1 g2 g3
    refine ⟨j - 4 * q, by omega, ?_, ?_, ?_⟩
    · rw [show 4 * q + (j - 4 * q) = j by omega]; exact g1
    · rw [show 4 * q + (j - 4 * q) = j by omega, ← qcDn_u (qf j), g2]; exact u1
    · rw [show 4 * q + (j - 4 * q) = j by omega, ← qcDn_u (qt j), g3]; exact u2
theorem Q56_axiom {post : Int → (Int → Int) → (Int → Int) → (Int → Int) → Int → Int → Prop} (R : qrIR kd lf rt na fn fa fb nf an sz qn qf qt nq fs ff fg fc m lg lk fd fo S) (h : ∀ kd' lf' rt' na' lk', qrIR kd' lf' rt' na' fn fa fb nf an sz qn qf qt nq fs ff fg fc m lg lk' fd fo ((qqAxiom k a b S).2) → post (qqAxiom k a b S).1 kd' lf' rt' na' lk') : wpX56_axiom post kd lf rt na lk k a b := by
  obtain ⟨hA, hF, hD, hQ, hC, rfl⟩ := R
  refine T56_axiom hA.1 (fun f => ?_) (fun f z => ?_) (fun f z => ?_)
  · have e : qqAxiom k a b (qrMk kd lf rt na (qFa fn fa fb nf) nf nq an (qrLs sz qn qf qt)) = (-1, qrMk kd lf rt na (qFa fn fa fb nf) nf nq an (qrLs sz qn qf qt)) := pif_f f
    rw [e] at h
    exact h _ _ _ _ _ ⟨hA, hF, hD, hQ, hC, rfl⟩
  · have e : qqAxiom k a b (qrMk kd lf rt na (qFa fn fa fb nf) nf nq an (qrLs sz qn qf qt)) = (-2, qrMk kd lf rt na (qFa fn fa fb nf) nf nq an (qrLs sz qn qf qt)) := (pif_t f).trans (if_pos z)
    rw [e] at h
    exact h _ _ _ _ _ ⟨hA, hF, hD, hQ, hC, rfl⟩
  · have e : qqAxiom k a b (qrMk kd lf rt na (qFa fn fa fb nf) nf nq an (qrLs sz qn qf qt)) = (na, qrMk (updI kd na k) (updI lf na a) (updI rt na b) (na + 1) (qFa fn fa fb nf) nf nq an (qrLs sz qn qf qt)) := (pif_t f).trans (if_neg (by omega))
    rw [e] at h
    refine h _ _ _ _ _ ⟨⟨by have := hA.1; omega, fun i i0 i1 => ?_⟩, hF, hD, hQ, fun q e q0 => by omega, rfl⟩
    by_cases y : i = na
    · rw [y, updI_s, updI_s, updI_s]
      exact f
    · rw [updI_n y, updI_n y, updI_n y]
      exact hA.2 i i0 (by omega)
theorem Q56_fact {post : Int → (Int → Int) → (Int → Int) → (Int → Int) → Int → Int → Prop} (R : qrIR kd lf rt na fn fa fb nf an sz qn qf qt nq fs ff fg fc m lg lk fd fo S) (h : ∀ fn' fa' fb' nf' fd', qrIR kd lf rt na fn' fa' fb' nf' an sz qn qf qt nq fs ff fg fc m lg lk fd' fo ((qqFact r w a b S).2) → post (qqFact r w a b S).1 fn' fa' fb' nf' fd') : wpX56_fact post fn fa fb nf fd r w a b := by
  obtain ⟨hA, hF, hD, hQ, hC, rfl⟩ := R
  refine T56_fact hF.1 (fun f => ?_) (fun f m => ?_) (fun f m z => ?_) (fun f m z => ?_)
  · have e : qqFact r w a b (qrMk kd lf rt na (qFa fn fa fb nf) nf nq an (qrLs sz qn qf qt)) = (-1, qrMk kd lf rt na (qFa fn fa fb nf) nf nq an (qrLs sz qn qf qt)) := pif_f f
    rw [e] at h
    exact h _ _ _ _ _ ⟨hA, hF, hD, hQ, hC, rfl⟩
  · have e : qqFact r w a b (qrMk kd lf rt na (qFa fn fa fb nf) nf nq an (qrLs sz qn qf qt)) = (0, qrMk kd lf rt na (qFa fn fa fb nf) nf nq an (qrLs sz qn qf qt)) := (pif_t f).trans (pif_t m)
    rw [e] at h
    exact h _ _ _ _ _ ⟨hA, hF, hD, hQ, hC, rfl⟩
  · have e : qqFact r w a b (qrMk kd lf rt na (qFa fn fa fb nf) nf nq an (qrLs sz qn qf qt)) = (-2, qrMk kd lf rt na (qFa fn fa fb nf) nf nq an (qrLs sz qn qf qt)) := (pif_t f).trans ((pif_f m).trans (if_pos z))
    rw [e] at h
    exact h _ _ _ _ _ ⟨hA, hF, hD, hQ, hC, rfl⟩
  · have e : qqFact r w a b (qrMk kd lf rt na (qFa fn fa fb nf) nf nq an (qrLs sz qn qf qt)) = (1, qrMk kd lf rt na (qrAd (qFa fn fa fb nf) (qCc r w) a (if r = 0 then 0 else b)) (nf + 1) nq an (qrLs sz qn qf qt)) := (pif_t f).trans ((pif_f m).trans (if_neg (by omega)))
    rw [e, ← qrAd_r hF.1.1] at h
    have b12 : 0 ≤ (if r = 0 then 0 else b) ∧ (if r = 0 then 0 else b) < 12 := by
      by_cases y : r = 0
      · rw [if_pos y]; decide
      · rw [if_neg y]; exact (f.2.2 y).2
    exact h _ _ _ _ _ ⟨hA, hF.ad (by omega) f.1 b12, hD.ad m, hQ, fun q e q0 q1 => ⟨(hC q e q0 q1).1, fun w => absurd rfl w⟩, rfl⟩
theorem Q56_forget {post : Int → (Int → Int) → (Int → Int) → (Int → Int) → Int → Int → Prop} (R : qrIR kd lf rt na fn fa fb nf an sz qn qf qt nq fs ff fg fc m lg lk fd fo S) (h : ∀ fn' fa' fb' nf' fd', qrIR kd lf rt na fn' fa' fb' nf' an sz qn qf qt nq fs ff fg fc m lg lk fd' fo ((qqForget r w a b S).2) → post (qqForget r w a b S).1 fn' fa' fb' nf' fd') : wpX56_forget post fn fa fb nf fd r w a b := by
  obtain ⟨hA, hF, hD, hQ, hC, rfl⟩ := R
  refine T56_forget hF.1 (fun f => ?_) (fun f m => ?_) (fun f s hs e1 e2 e3 => ?_)
  · have e : qqForget r w a b (qrMk kd lf rt na (qFa fn fa fb nf) nf nq an (qrLs sz qn qf qt)) = (-1, qrMk kd lf rt na (qFa fn fa fb nf) nf nq an (qrLs sz qn qf qt)) := pif_f f
    rw [e] at h
    exact h _ _ _ _ _ ⟨hA, hF, hD, hQ, hC, rfl⟩
  · have e : qqForget r w a b (qrMk kd lf rt na (qFa fn fa fb nf) nf nq an (qrLs sz qn qf qt)) = (0, qrMk kd lf rt na (qFa fn fa fb nf) nf nq an (qrLs sz qn qf qt)) := (pif_t f).trans (pif_f m)
    rw [e] at h
    exact h _ _ _ _ _ ⟨hA, hF, hD, hQ, hC, rfl⟩
  · have e : qqForget r w a b (qrMk kd lf rt na (qFa fn fa fb nf) nf nq an (qrLs sz qn qf qt)) = (1, qrMk kd lf rt na (qrRm (qFa fn fa fb nf) (qCc r w) a (if r = 0 then 0 else b)) (nf - 1) nq an (qrLs sz qn qf qt)) := (pif_t f).trans (pif_t ⟨s, hs, e1, e2, e3⟩)
    rw [e, ← qrRm_r hD hs e1 e2 e3] at h
    exact h _ _ _ _ _ ⟨hA, hF.rm hs, hD.rm hs, hQ, fun q e q0 q1 => ⟨(hC q e q0 q1).1, fun w => absurd rfl w⟩, rfl⟩
theorem Q56_question {post : Int → (Int → Int) → (Int → Int) → Int → Int → Prop} (R : qrIR kd lf rt na fn fa fb nf an sz qn qf qt nq fs ff fg fc m lg lk fd fo S) (h : ∀ an' sz' nq' lk', qrIR kd lf rt na fn fa fb nf an' sz' qn qf qt nq' fs ff fg fc m lg lk' fd fo ((qqQuestion x S).2) → post (qqQuestion x S).1 an' sz' nq' lk') : wpX56_question post an sz nq lk x := by
  obtain ⟨hA, hF, hD, hQ, hC, rfl⟩ := R
  refine T56_question hQ.1 (fun f => ?_) (fun f z => ?_) (fun f z => ?_)
  · rw [qqQuestion_1 f] at h
    exact h _ _ _ _ ⟨hA, hF, hD, hQ, hC, rfl⟩
  · rw [qqQuestion_2 f z] at h
    exact h _ _ _ _ ⟨hA, hF, hD, hQ, hC, rfl⟩
  · rw [qqQuestion_3 (QA' := updI an nq x) (QL' := qrLs (updI sz nq 0) qn qf qt) f hQ.1.1 (by omega) (fun q q0 q1 => ⟨updI_n (by omega), by unfold qrLs; rw [updI_n (show ¬ q = nq by omega)]⟩) updI_s (by unfold qrLs; rw [updI_s]; rfl)] at h
    refine h _ _ _ _ ⟨hA, hF, hD, ⟨by have := hQ.1; omega, fun i i0 i1 => ?_⟩, fun q e q0 => by omega, rfl⟩
    by_cases y : i = nq
    · rw [y, updI_s, updI_s]
      exact ⟨f, by decide, fun k k0 k1 => by omega⟩
    · rw [updI_n y, updI_n y]
      exact hQ.2 i i0 (by omega)
theorem Q56_atom {post : Int → (Int → Int) → (Int → Int) → (Int → Int) → (Int → Int) → Int → Prop} (R : qrIR kd lf rt na fn fa fb nf an sz qn qf qt nq fs ff fg fc m lg lk fd fo S) (h : ∀ sz' qn' qf' qt' lk', qrIR kd lf rt na fn fa fb nf an sz' qn' qf' qt' nq fs ff fg fc m lg lk' fd fo ((qqAtom q r w a b S).2) → post (qqAtom q r w a b S).1 sz' qn' qf' qt' lk') : wpX56_atom post sz qn qf qt nq lk q r w a b := by
  obtain ⟨hA, hF, hD, hQ, hC, rfl⟩ := R
  have hs : qTc r q nq w a b → (0 ≤ sz q ∧ sz q ≤ 4) ∧ ((qHs sz qn qf qt q (qCc r w) (10 + a) (if r = 0 then 7 else 10 + b)) ↔ (qCc r w, 8 + a, if r = 0 then 7 else 8 + b) ∈ qrLs sz qn qf qt q) := fun f => by
    have s := (hQ.2 q f.1.1 f.1.2).2.1
    refine ⟨s, qrHs (b := b) f.2.1 s.1 ?_⟩
    by_cases y : r = 0
    · rw [if_pos y, if_pos y]; exact Or.inl ⟨rfl, rfl⟩
    · rw [if_neg y, if_neg y]
      have := f.2.2.2 y
      exact Or.inr ⟨this.2.1, this.2.2, rfl, rfl⟩
  refine T56_atom hQ (fun f => ?_) (fun f m => ?_) (fun f m z => ?_) (fun f m z => ?_)
  · rw [qqAtom_1 f] at h
    exact h _ _ _ _ _ ⟨hA, hF, hD, hQ, hC, rfl⟩
  · obtain ⟨s, hm⟩ := hs f
    rw [qqAtom_2 f (hm.1 m), qrLs_len s.1] at h
    exact h _ _ _ _ _ ⟨hA, hF, hD, hQ, hC, rfl⟩
  · obtain ⟨s, hm⟩ := hs f
    rw [qqAtom_3 f (fun w => m (hm.2 w)) (by have := qrLs_len (qn := qn) (qf := qf) (qt := qt) s.1; omega)] at h
    exact h _ _ _ _ _ ⟨hA, hF, hD, hQ, hC, rfl⟩
  · obtain ⟨s, hm⟩ := hs f
    have len := qrLs_len (qn := qn) (qf := qf) (qt := qt) s.1
    have d1 : qcDn (10 + a) = 8 + a := by
      have := f.2.1
      unfold qcDn
      rw [if_pos (by omega)]
      omega
    have d2 : qcDn (if r = 0 then 7 else 10 + b) = (if r = 0 then 7 else 8 + b) := by
      by_cases y : r = 0
      · rw [if_pos y, if_pos y]; decide
      · rw [if_neg y, if_neg y]
        have := f.2.2.2 y
        unfold qcDn
        rw [if_pos (by omega)]
        omega
    have hq := hQ.1
    have n6 := f.1
    rw [qqAtom_4 (QA' := an) (QL' := qrLs (updI sz q (sz q + 1)) (updI qn (4 * q + sz q) (qCc r w)) (updI qf (4 * q + sz q) (10 + a)) (updI qt (4 * q + sz q) (if r = 0 then 7 else 10 + b))) f (fun w => m (hm.2 w)) (by omega) (fun _ _ _ => rfl) (fun p p0 p1 ne => by
      have sp := (hQ.2 p p0 p1).2.1
      unfold qrLs
      rw [updI_n ne]
      refine congrArg (List.map (qTr qcDn)) (aF_c _ _ (fun i i0 i1 => ?_))
      unfold qAr
      have ni : ¬ i = 4 * q + sz q := by omega
      rw [updI_n ni, updI_n ni, updI_n ni]) (by
      unfold qrLs
      rw [updI_s, show (sz q + 1).toNat = (sz q).toNat + 1 by omega, aF_s, List.map_append]
      refine congr (congrArg _ (congrArg (List.map (qTr qcDn)) (aF_c _ _ (fun i i0 i1 => ?_)))) ?_
      · unfold qAr
        have ni : ¬ i = 4 * q + sz q := by omega
        rw [updI_n ni, updI_n ni, updI_n ni]
      · show [(updI qn (4 * q + sz q) (qCc r w) (4 * q + ((sz q).toNat : Int)), qcDn (updI qf (4 * q + sz q) (10 + a) (4 * q + ((sz q).toNat : Int))), qcDn (updI qt (4 * q + sz q) (if r = 0 then 7 else 10 + b) (4 * q + ((sz q).toNat : Int))))] = _
        rw [show 4 * q + ((sz q).toNat : Int) = 4 * q + sz q by omega, updI_s, updI_s, updI_s, d1, d2])] at h
    rw [len] at h
    refine h _ _ _ _ _ ⟨hA, hF, hD, ⟨hQ.1, fun i i0 i1 => ?_⟩, fun q e q0 => by omega, rfl⟩
    obtain ⟨j1, j2, j3⟩ := hQ.2 i i0 i1
    refine ⟨j1, ?_, fun k k0 k1 => ?_⟩
    · rw [updI_e]
      split <;> omega
    · by_cases y : 4 * i + k = 4 * q + sz q
      · rw [y, updI_s, updI_s, updI_s]
        have fa_ := f.2.1
        unfold qGa qCc
        try dsimp only
        by_cases y2 : r = 0
        · have := f.2.2.1 y2
          rw [if_pos y2, if_pos y2]
          omega
        · have := f.2.2.2 y2
          rw [if_neg y2, if_neg y2]
          omega
      · rw [updI_n y, updI_n y, updI_n y]
        refine j3 k k0 ?_
        rw [updI_e] at k1
        by_cases y3 : i = q
        · rw [if_pos y3] at k1
          rw [y3] at y ⊢
          omega
        · rw [if_neg y3] at k1
          exact k1
theorem Q56_forms {post : Int → Int → Int → (Int → Int) → (Int → Int) → (Int → Int) → Int → (Int → Int) → (Int → Int) → (Int → Int) → Int → (Int → Int) → (Int → Int) → (Int → Int) → (Int → Int) → Int → Int → Int → Int → Prop} (R : qrIR kd lf rt na fn fa fb nf an sz qn qf qt nq fs ff fg fc m lg lk fd fo S) (h : ∀ a' b' nm' fr' to' n' co' le' ot' oc' fs' ff' fg' fc' m' lg' lk' fd', qrIR kd lf rt na fn fa fb nf an sz qn qf qt nq fs' ff' fg' fc' m' lg' lk' fd' fo S → post (qqForms q S) a' b' nm' fr' to' n' co' le' ot' oc' fs' ff' fg' fc' m' lg' lk' fd') : wpX56_forms post kd lf rt na an sz qn qf qt nq a b nm fr to n co le ot oc fs ff fg fc m lg lk fd q := by
  obtain ⟨hA, hF, hD, hQ, hC, rfl⟩ := R
  refine T56_forms hA hQ hC (fun a' b' nm' fr' to' n' co' le' ot' oc' fs' ff' fg' fc' m' lg' lk' fd' C' => ?_)
  have G := h a' b' nm' fr' to' n' co' le' ot' oc' fs' ff' fg' fc' m' lg' lk' fd' ⟨hA, hF, hD, hQ, C', rfl⟩
  unfold qqForms at G
  rw [qqTold_e, qrTl hQ, qrZ] at G
  exact G
theorem Q56_form {post : Int → Int → Int → (Int → Int) → (Int → Int) → (Int → Int) → Int → (Int → Int) → (Int → Int) → (Int → Int) → Int → (Int → Int) → (Int → Int) → (Int → Int) → (Int → Int) → Int → Int → Int → Int → Prop} (R : qrIR kd lf rt na fn fa fb nf an sz qn qf qt nq fs ff fg fc m lg lk fd fo S) (hw : -2147483648 ≤ w ∧ w < 2147483648) (h : ∀ a' b' nm' fr' to' n' co' le' ot' oc' fs' ff' fg' fc' m' lg' lk' fd', qrIR kd lf rt na fn fa fb nf an sz qn qf qt nq fs' ff' fg' fc' m' lg' lk' fd' fo S → post (qqForm q i w S) a' b' nm' fr' to' n' co' le' ot' oc' fs' ff' fg' fc' m' lg' lk' fd') : wpX56_form post kd lf rt na an sz qn qf qt nq a b nm fr to n co le ot oc fs ff fg fc m lg lk fd q i w := by
  obtain ⟨hA, hF, hD, hQ, hC, rfl⟩ := R
  refine T56_form hA hQ hC hw (fun a' b' nm' fr' to' n' co' le' ot' oc' fs' ff' fg' fc' m' lg' lk' fd' C' => ?_)
  have G := h a' b' nm' fr' to' n' co' le' ot' oc' fs' ff' fg' fc' m' lg' lk' fd' ⟨hA, hF, hD, hQ, C', rfl⟩
  unfold qqForm at G
  rw [qqTold_e, qrTl hQ, qrZ] at G
  exact G
theorem Q56_run {post : Int → Int → Int → (Int → Int) → (Int → Int) → (Int → Int) → Int → (Int → Int) → (Int → Int) → (Int → Int) → Int → (Int → Int) → (Int → Int) → (Int → Int) → (Int → Int) → Int → Int → Int → (Int → Int) → Int → (Int → Int) → (Int → Int) → (Int → Int) → (Int → Int) → Prop} (R : qrIR kd lf rt na fn fa fb nf an sz qn qf qt nq fs ff fg fc m lg lk fd fo S) (h : ∀ a' b' nm' fr' to' n' co' le' ot' oc' fs' ff' fg' fc' m' lg' lk' fo' fd' th' rw' sA' sB', qrIR kd lf rt na fn fa fb nf an sz qn qf qt nq fs' ff' fg' fc' m' lg' lk' fd' fo' S → post (qqRun q S) a' b' nm' fr' to' n' co' le' ot' oc' fs' ff' fg' fc' m' lg' lk' fo' fd' th' rw' sA' sB') : wpX56_run post kd lf rt na fn fa fb nf an sz qn qf qt nq a b nm fr to n co le ot oc fs ff fg fc m lg lk fo fd th rw_ sA sB q := by
  obtain ⟨hA, hF, hD, hQ, hC, rfl⟩ := R
  refine T56_run hA hF hQ hC (fun a' b' nm' fr' to' n' co' le' ot' oc' fs' ff' fg' fc' m' lg' lk' fo' fd' th' rw' sA' sB' C' => ?_)
  have G := h a' b' nm' fr' to' n' co' le' ot' oc' fs' ff' fg' fc' m' lg' lk' fo' fd' th' rw' sA' sB' ⟨hA, hF, hD, hQ, C', rfl⟩
  unfold qqRun at G
  rw [qqTold_e, qrTl hQ, qrZ] at G
  exact G
theorem Q56_answer {post : Int → Int → Int → (Int → Int) → (Int → Int) → (Int → Int) → Int → (Int → Int) → (Int → Int) → (Int → Int) → Int → (Int → Int) → (Int → Int) → (Int → Int) → (Int → Int) → Int → Int → Int → (Int → Int) → Int → (Int → Int) → (Int → Int) → (Int → Int) → (Int → Int) → Prop} (R : qrIR kd lf rt na fn fa fb nf an sz qn qf qt nq fs ff fg fc m lg lk fd fo S) (hi : -2147483648 ≤ i ∧ i < 2147483648) (h : ∀ a' b' nm' fr' to' n' co' le' ot' oc' fs' ff' fg' fc' m' lg' lk' fo' fd' th' rw' sA' sB', qrIR kd lf rt na fn fa fb nf an sz qn qf qt nq fs' ff' fg' fc' m' lg' lk' fd' fo' S → post (qqAnswer q i S) a' b' nm' fr' to' n' co' le' ot' oc' fs' ff' fg' fc' m' lg' lk' fo' fd' th' rw' sA' sB') : wpX56_answer post kd lf rt na fn fa fb nf an sz qn qf qt nq a b nm fr to n co le ot oc fs ff fg fc m lg lk fo fd th rw_ sA sB q i := by
  obtain ⟨hA, hF, hD, hQ, hC, rfl⟩ := R
  refine T56_answer hA hF hQ hC hi (fun a' b' nm' fr' to' n' co' le' ot' oc' fs' ff' fg' fc' m' lg' lk' fo' fd' th' rw' sA' sB' C' => ?_)
  have G := h a' b' nm' fr' to' n' co' le' ot' oc' fs' ff' fg' fc' m' lg' lk' fo' fd' th' rw' sA' sB' ⟨hA, hF, hD, hQ, C', rfl⟩
  unfold qqAnswer at G
  rw [qqTold_e, qrTl hQ, qrZ] at G
  exact G
theorem Q56_why {post : Int → Int → Int → (Int → Int) → (Int → Int) → (Int → Int) → Int → (Int → Int) → (Int → Int) → (Int → Int) → Int → (Int → Int) → (Int → Int) → (Int → Int) → (Int → Int) → Int → Int → Int → (Int → Int) → Int → (Int → Int) → (Int → Int) → (Int → Int) → (Int → Int) → Prop} (R : qrIR kd lf rt na fn fa fb nf an sz qn qf qt nq fs ff fg fc m lg lk fd fo S) (h : ∀ a' b' nm' fr' to' n' co' le' ot' oc' fs' ff' fg' fc' m' lg' lk' fo' fd' th' rw' sA' sB', qrIR kd lf rt na fn fa fb nf an sz qn qf qt nq fs' ff' fg' fc' m' lg' lk' fd' fo' S → post (qqWhy q z S) a' b' nm' fr' to' n' co' le' ot' oc' fs' ff' fg' fc' m' lg' lk' fo' fd' th' rw' sA' sB') : wpX56_why post kd lf rt na fn fa fb nf an sz qn qf qt nq a b nm fr to n co le ot oc fs ff fg fc m lg lk fo fd th rw_ sA sB q z := by
  obtain ⟨hA, hF, hD, hQ, hC, rfl⟩ := R
  refine T56_why hA hF hQ hC (fun a' b' nm' fr' to' n' co' le' ot' oc' fs' ff' fg' fc' m' lg' lk' fo' fd' th' rw' sA' sB' C' => ?_)
  have G := h a' b' nm' fr' to' n' co' le' ot' oc' fs' ff' fg' fc' m' lg' lk' fo' fd' th' rw' sA' sB' ⟨hA, hF, hD, hQ, C', rfl⟩
  unfold qqWhy at G
  rw [qqTold_e, qrTl hQ, qrZ] at G
  exact G
theorem Q56_broken {post : Int → (Int → Int) → (Int → Int) → (Int → Int) → (Int → Int) → (Int → Int) → Int → Int → (Int → Int) → (Int → Int) → (Int → Int) → Int → (Int → Int) → (Int → Int) → (Int → Int) → Int → (Int → Int) → (Int → Int) → (Int → Int) → (Int → Int) → Int → Int → Int → (Int → Int) → Int → (Int → Int) → (Int → Int) → (Int → Int) → (Int → Int) → Prop} (R : qrIR kd lf rt na fn fa fb nf an sz qn qf qt nq fs ff fg fc m lg lk fd fo S) (h : ∀ an' sz' qn' qf' qt' a' b' nm' fr' to' n' co' le' ot' oc' fs' ff' fg' fc' m' lg' lk' fo' fd' th' rw' sA' sB', qrIR kd lf rt na fn fa fb nf an' sz' qn' qf' qt' nq fs' ff' fg' fc' m' lg' lk' fd' fo' S → post (qqBroken S) an' sz' qn' qf' qt' a' b' nm' fr' to' n' co' le' ot' oc' fs' ff' fg' fc' m' lg' lk' fo' fd' th' rw' sA' sB') : wpX56_broken post kd lf rt na fn fa fb nf an sz qn qf qt a b nm fr to n co le ot oc fs ff fg fc m lg lk fo fd th rw_ sA sB := by
  obtain ⟨hA, hF, hD, hQ, hC, rfl⟩ := R
  refine T56_broken hA hF hC (fun an' sz' qn' qf' qt' a' b' nm' fr' to' n' co' le' ot' oc' fs' ff' fg' fc' m' lg' lk' fo' fd' th' rw' sA' sB' Q6 C' => ?_)
  have hq := hQ.1
  have G := h an' sz' qn' qf' qt' a' b' nm' fr' to' n' co' le' ot' oc' fs' ff' fg' fc' m' lg' lk' fo' fd' th' rw' sA' sB' ⟨hA, hF, hD, ⟨hQ.1, fun i i0 i1 => ?_⟩, C', ?_⟩
  · have e : qqBroken (qrMk kd lf rt na (qFa fn fa fb nf) nf nq an (qrLs sz qn qf qt)) = qBr kd lf rt na (qFa fn fa fb nf) na.toNat 0 := qcBr_e (fun _ _ _ => Iff.rfl) na.toNat 0
    rw [e] at G
    exact G
  · obtain ⟨j1, j2, j3⟩ := hQ.2 i i0 i1
    obtain ⟨s1, s2⟩ := Q6.1 i (by omega)
    rw [s1, s2]
    refine ⟨j1, j2, fun k k0 k1 => ?_⟩
    obtain ⟨t1, t2, t3⟩ := Q6.2 (4 * i + k) (by omega)
    rw [t1, t2, t3]
    exact j3 k k0 k1
  · refine qrMk_c (fun i i0 i1 => ?_)
    obtain ⟨j1, j2, j3⟩ := hQ.2 i i0 i1
    obtain ⟨s1, s2⟩ := Q6.1 i (by omega)
    refine ⟨s1.symm, ?_⟩
    unfold qrLs
    rw [s2]
    refine congrArg (List.map (qTr qcDn)) (aF_c _ _ (fun p p0 p1 => ?_))
    obtain ⟨t1, t2, t3⟩ := Q6.2 p (by omega)
    unfold qAr
    rw [t1, t2, t3]
theorem Q56_count {post : Int → Prop} (R : qrIR kd lf rt na fn fa fb nf an sz qn qf qt nq fs ff fg fc m lg lk fd fo S) (h : post (qqCount x S)) : wpX56_count post na nf nq x := by
  obtain ⟨hA, hF, hD, hQ, hC, rfl⟩ := R
  exact T56_count h
theorem Q56_clear {post : Int → Int → Int → Prop} (R : qrIR kd lf rt na fn fa fb nf an sz qn qf qt nq fs ff fg fc m lg lk fd fo S) (h : ∀ nq' lk', qrIR kd lf rt na fn fa fb nf an sz qn qf qt nq' fs ff fg fc m lg lk' fd fo ((qqClear S).2) → post (qqClear S).1 nq' lk') : wpX56_clear post nq := by
  obtain ⟨hA, hF, hD, hQ, hC, rfl⟩ := R
  rw [qqClear_e (QA' := an) (QL' := qrLs sz qn qf qt)] at h
  exact T56_clear (h _ _ ⟨hA, hF, hD, ⟨by decide, fun i i0 i1 => by omega⟩, fun q e q0 => by omega, rfl⟩)
end
