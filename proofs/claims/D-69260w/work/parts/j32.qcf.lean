/-! QlRewrite (room QR): answers asked, what is broken -/
noncomputable def qcBr (kf lf rt : Int → Int) (na : Int) (Fa : Int → Int → Int → Prop) : Nat → Int → Int
  | 0, _ => -1
  | p + 1, y => if 2 ≤ kf y then (if (qcZ kf lf rt na 0 (qcLy (kf y) (lf y) (rt y))).2 = 0 then pif (qAny Fa (qcZ kf lf rt na 0 (qcLy (kf y) (lf y) (rt y))) 0) y (qcBr kf lf rt na Fa p (y + 1)) else -3) else qcBr kf lf rt na Fa p (y + 1)
theorem qcCm {p : Int → Prop} {a b : Nat} (h : a ≤ b) : cntI p a ≤ cntI p b := by
  induction b with
  | zero => rw [show a = 0 by omega]; exact Int.le_refl _
  | succ b ih =>
    by_cases z : a = b + 1
    · rw [z]; exact Int.le_refl _
    · have := ih (by omega)
      have e : cntI p (b + 1) = cntI p b + pif (p b) 1 0 := rfl
      rw [e]
      by_cases y : p b
      · rw [pif_t y]; omega
      · rw [pif_f y]; omega
theorem qcB1 {kc p MC a : Nat} (h : kc + a * (p + 1) ≤ MC) : kc + a ≤ MC ∧ kc + a + a * p ≤ MC := by
  rw [Nat.mul_succ] at h
  omega
theorem qcLy_ne {kx L Rr : Int} : ¬ qcLy kx L Rr = [] := by
  unfold qcLy
  split
  · exact fun h => by cases h
  · exact fun h => by cases h
section
variable {kd : Nat → Nat} {an : Nat → Nat} {ai : Nat → Int → Int} {al : Nat → Int → Int} {ar : Nat → Int → Option Nat} {mX40_kinds : Nat → Option Nat} {mX40_lefts : Nat → Option Nat} {mX40_rights : Nat → Option Nat} {mX40_axioms : Nat → Int} {mX40_classFacts : Nat → Option Nat} {mX40_roleFacts : Nat → Option Nat} {mX40_facts : Nat → Int} {mX40_draft : Nat → Option Nat} {mX40_questions : Nat → Option Nat} {mX40_questionCount : Nat → Int} {mX40_forbidden : Nat → Option Nat} {mX40_given : Nat → Option Nat} {mX41_first : Nat → Int} {mX41_second : Nat → Int} {mX41_names : Nat → Option Nat} {mX41_from : Nat → Option Nat} {mX41_to : Nat → Option Nat} {mX41_n : Nat → Int} {mX41_codes : Nat → Option Nat} {mX41_least : Nat → Option Nat} {mX41_hasLeast : Nat → Int} {mX41_others : Nat → Option Nat} {mX41_otherCount : Nat → Int} {mX41_named : Nat → Option Nat} {mX62_answers : Nat → Int} {mX62_names : Nat → Option Nat} {mX62_from : Nat → Option Nat} {mX62_to : Nat → Option Nat} {mX62_n : Nat → Int} {mX62_forms : Nat → Option Nat} {mX62_count : Nat → Int} {mX62_large : Nat → Int} {mX62_known : Nat → Int} {mX85_first : Nat → Int} {mX85_second : Nat → Int} {mX85_codes : Nat → Option Nat} {A : Nat → Int → Nat} {G : Nat → Nat × Int} {nq nF na nf nQ : Int} {FF : Int → qFo} {qa qk kf lf rt cf rf sq sf ow : Int → Int} {ql : Int → List qA} {qS : Int → qSS} {QA : Int → Int} {QL : Int → List qA} {x : Nat} {j n k v oc i a b o f y r pl fl q w z : Int} {l : List qA} {S : qSS} {MC MS : Nat} {F : qFo}
theorem CQR_run {post : Int → (Nat → Nat) → (Nat → Nat) → (Nat → Int → Int) → (Nat → Int → Option Nat) → (Nat → Int) → (Nat → Int) → (Nat → Int) → (Nat → Int) → (Nat → Int) → (Nat → Int) → (Nat → Int) → (Nat → Int) → (Nat → Int) → (Nat → Int) → (Nat → Option Nat) → Prop} (Rm : qcRm kd an ai al ar mX40_kinds mX40_lefts mX40_rights mX40_axioms mX40_classFacts mX40_roleFacts mX40_facts mX40_draft mX40_questions mX40_questionCount mX40_forbidden mX40_given mX41_first mX41_second mX41_names mX41_from mX41_to mX41_n mX41_codes mX41_least mX41_hasLeast mX41_others mX41_otherCount mX41_named mX62_answers mX62_names mX62_from mX62_to mX62_n mX62_forms mX62_count mX62_large mX62_known mX85_first mX85_second mX85_codes x kf lf rt na cf rf nf nQ QA QL) (bC : 180 ≤ MC) (bS : 630 ≤ MS) (hp : ∀ kd' an' ai' ar' fi' se' n' hl' oc' qc' qlg' kn' f1' f2' cd', qcRm (kd') (an') (ai') al (ar') mX40_kinds mX40_lefts mX40_rights mX40_axioms mX40_classFacts mX40_roleFacts mX40_facts mX40_draft mX40_questions mX40_questionCount mX40_forbidden mX40_given (fi') (se') mX41_names mX41_from mX41_to (n') mX41_codes mX41_least (hl') mX41_others (oc') mX41_named mX62_answers mX62_names mX62_from mX62_to mX62_n mX62_forms (qc') (qlg') (kn') (f1') (f2') (cd') x kf lf rt na cf rf nf nQ QA QL → post (qTl ((0 ≤ q ∧ q < nQ) ∧ ¬ QL q = []) (qcZ kf lf rt na (QA q) (QL q)) (cntI (qAny (qcFa cf rf) (qcZ kf lf rt na (QA q) (QL q))) 192)) kd' an' ai' ar' fi' se' n' hl' oc' qc' qlg' kn' f1' f2' cd') : wpQR_X40_run MC MS post kd an ai ar mX40_kinds mX40_lefts mX40_rights mX40_axioms mX40_classFacts mX40_roleFacts mX40_draft mX40_questions mX40_questionCount mX40_given mX41_first mX41_second mX41_names mX41_from mX41_to mX41_n mX41_codes mX41_least mX41_hasLeast mX41_others mX41_otherCount mX41_named mX62_answers mX62_names mX62_from mX62_to mX62_n mX62_forms mX62_count mX62_large mX62_known mX85_first mX85_second mX85_codes x q  := by
  obtain ⟨A, G, nq, nF, FF, qa, ql, qS, qk, sq, sf, ow, e0, H, K, hQ, hX⟩ := Rm
  subst e0
  unfold wpQR_X40_run
  refine ⟨MC, MS, ⟨by omega, by omega⟩, CQR_ready H K bC bS (fun no _ => ?_) (fun hq hl kd' an' ai' ar' fi' se' n' hl' oc' qc' qlg' kn' f1' f2' cd' A' G' nF' FF' M R' K' _ => ?_)⟩
  · have no' : ¬ ((0 ≤ q ∧ q < nQ) ∧ ¬ QL q = []) := fun w => no ⟨w.1, by rw [(hQ q w.1.1 w.1.2).2]; exact w.2⟩
    have P := hp kd an ai ar mX41_first mX41_second mX41_n mX41_hasLeast mX41_otherCount mX62_count mX62_large mX62_known mX85_first mX85_second mX85_codes ⟨A, G, nq, nF, FF, qa, ql, qS, qk, sq, sf, ow, rfl, H, K, hQ, hX⟩
    unfold qTl at P
    rw [pif_f no'] at P
    exact ⟨fun w => absurd w (by decide), fun _ => ⟨by omega, by omega, P⟩⟩
  · obtain ⟨ea, el⟩ := hQ q hq.1 hq.2
    rw [ea, el] at R' K' ⊢
    have rd : ((0 ≤ q ∧ q < nQ) ∧ ¬ QL q = []) := ⟨hq, by rw [← el]; exact hl⟩
    have e00 : A' 0 0 = A 0 0 := M.2.1 0 0 (by decide) (show (0 : Int) < 1 by decide)
    have sj : 0 ≤ sq q ∧ sq q < nq := (H.qst hq).2.2.2.2.2
    obtain ⟨g1, g2, g3, g4, g5, _⟩ := R'.qst hq
    rw [e00] at g1
    have R1 := R'
    obtain ⟨⟨HL, q0, f0⟩, Fl, D, HF, HQ, HX, HC, HS⟩ := R'
    obtain ⟨s1, s2, s3, s4, s5⟩ := (HQ (sq q) sj.1 sj.2).2.1
    rw [updI_s] at s1 s2 s3 s4 s5
    have fin : ∀ ai2 v, qcO A' ai' ai2 → ((qcZ kf lf rt na (QA q) (QL q)).2 = 0 → v = cntI (qAny (qcFa cf rf) (qcZ kf lf rt na (QA q) (QL q))) 192) → (¬ (qcZ kf lf rt na (QA q) (QL q)).2 = 0 → v = -3) → post v kd' an' ai2 ar' fi' se' n' hl' oc' qc' qlg' kn' f1' f2' cd' := fun ai2 v O2 v0 v1 => by
      have P := hp kd' an' ai2 ar' fi' se' n' hl' oc' qc' qlg' kn' f1' f2' cd' ⟨A', G', nq, nF', FF', qa, ql, _, _, sq, sf, ow, e00, by rw [O2.up]; exact R1.gw, K', hQ, hX⟩
      unfold qTl at P
      rw [pif_t rd] at P
      by_cases w : (qcZ kf lf rt na (QA q) (QL q)).2 = 0
      · rw [if_pos w] at P
        rw [v0 w]; exact P
      · rw [if_neg w] at P
        rw [v1 w]; exact P
    have same : qcO A' ai' ai' := fun _ _ => rfl
    have h6 : ∀ F ∈ ((updI qS (sq q) (qcZ kf lf rt na (QA q) (QL q))) (sq q)).1, F.1 < 6 ∧ F.2.1 < 6 := fun F hF => by
      rw [updI_s] at hF
      obtain ⟨t, ht, et⟩ := gD_ex (d := (0, 0, [])) hF
      obtain ⟨r, hr, _, ft⟩ := s5 (t : Int) (by omega) (by omega)
      rw [show ((t : Int)).toNat = t by omega, et] at ft
      rw [← ft]; exact (HF r hr.1 hr.2).2.2.2.2
    have hqq : ∀ F ∈ ((updI qS (sq q) (qcZ kf lf rt na (QA q) (QL q))) (sq q)).1, qcAq (qa (sq q)) F := fun F hF => by
      rw [updI_s] at hF
      rw [ea]; exact qcZ_q F hF
    have eS : (updI qS (sq q) (qcZ kf lf rt na (QA q) (QL q))) (sq q) = (qcZ kf lf rt na (QA q) (QL q)) := updI_s
    have cb := cntI_b (qAny (qcFa cf rf) (qcZ kf lf rt na (QA q) (QL q))) 192
    by_cases w : (qcZ kf lf rt na (QA q) (QL q)).2 = 0
    · rw [if_pos w]
      refine ⟨fun _ => kOn_of g1 ⟨g2, by rw [g3]; have := HS.1.2; omega, fun r1 e1 => ⟨⟨by omega, by omega⟩, ?_⟩⟩, fun z => absurd (by decide) z⟩
      rw [g4] at e1
      rw [e1, ← e00]
      refine CQR_answerAt R1 sj (fun _ _ => rfl) hqq h6 (by decide) (fun z ai2 O2 hz _ hc => ?_) (fun ai2 O2 _ => ⟨?_, by omega, by omega, fin ai2 _ O2 (fun _ => ?_) (fun z => absurd w z)⟩)
      · rw [eS] at hc
        have := cntI_b (qAny (qcFa cf rf) (qcZ kf lf rt na (QA q) (QL q))) z.toNat
        omega
      · rw [eS]; omega
      · rw [eS]; omega
    · rw [if_neg w]
      exact ⟨fun z => absurd z (by decide), fun _ => ⟨by omega, by omega, fin ai' _ same (fun z => absurd z w) (fun _ => rfl)⟩⟩
theorem CQR_answer {post : Int → (Nat → Nat) → (Nat → Nat) → (Nat → Int → Int) → (Nat → Int → Option Nat) → (Nat → Int) → (Nat → Int) → (Nat → Int) → (Nat → Int) → (Nat → Int) → (Nat → Int) → (Nat → Int) → (Nat → Int) → (Nat → Int) → (Nat → Int) → (Nat → Option Nat) → Prop} (Rm : qcRm kd an ai al ar mX40_kinds mX40_lefts mX40_rights mX40_axioms mX40_classFacts mX40_roleFacts mX40_facts mX40_draft mX40_questions mX40_questionCount mX40_forbidden mX40_given mX41_first mX41_second mX41_names mX41_from mX41_to mX41_n mX41_codes mX41_least mX41_hasLeast mX41_others mX41_otherCount mX41_named mX62_answers mX62_names mX62_from mX62_to mX62_n mX62_forms mX62_count mX62_large mX62_known mX85_first mX85_second mX85_codes x kf lf rt na cf rf nf nQ QA QL) (bC : 180 ≤ MC) (bS : 630 ≤ MS) (hp : ∀ kd' an' ai' ar' fi' se' n' hl' oc' qc' qlg' kn' f1' f2' cd', qcRm (kd') (an') (ai') al (ar') mX40_kinds mX40_lefts mX40_rights mX40_axioms mX40_classFacts mX40_roleFacts mX40_facts mX40_draft mX40_questions mX40_questionCount mX40_forbidden mX40_given (fi') (se') mX41_names mX41_from mX41_to (n') mX41_codes mX41_least (hl') mX41_others (oc') mX41_named mX62_answers mX62_names mX62_from mX62_to mX62_n mX62_forms (qc') (qlg') (kn') (f1') (f2') (cd') x kf lf rt na cf rf nf nQ QA QL → post (qTl ((0 ≤ q ∧ q < nQ) ∧ ¬ QL q = []) (qcZ kf lf rt na (QA q) (QL q)) (if 0 ≤ i then qNth (qAny (qcFa cf rf) (qcZ kf lf rt na (QA q) (QL q))) i else -1)) kd' an' ai' ar' fi' se' n' hl' oc' qc' qlg' kn' f1' f2' cd') : wpQR_X40_answer MC MS post kd an ai ar mX40_kinds mX40_lefts mX40_rights mX40_axioms mX40_classFacts mX40_roleFacts mX40_draft mX40_questions mX40_questionCount mX40_given mX41_first mX41_second mX41_names mX41_from mX41_to mX41_n mX41_codes mX41_least mX41_hasLeast mX41_others mX41_otherCount mX41_named mX62_answers mX62_names mX62_from mX62_to mX62_n mX62_forms mX62_count mX62_large mX62_known mX85_first mX85_second mX85_codes x q i := by
  obtain ⟨A, G, nq, nF, FF, qa, ql, qS, qk, sq, sf, ow, e0, H, K, hQ, hX⟩ := Rm
  subst e0
  unfold wpQR_X40_answer
  refine ⟨MC, MS, ⟨by omega, by omega⟩, CQR_ready H K bC bS (fun no _ => ?_) (fun hq hl kd' an' ai' ar' fi' se' n' hl' oc' qc' qlg' kn' f1' f2' cd' A' G' nF' FF' M R' K' _ => ?_)⟩
  · have no' : ¬ ((0 ≤ q ∧ q < nQ) ∧ ¬ QL q = []) := fun w => no ⟨w.1, by rw [(hQ q w.1.1 w.1.2).2]; exact w.2⟩
    have P := hp kd an ai ar mX41_first mX41_second mX41_n mX41_hasLeast mX41_otherCount mX62_count mX62_large mX62_known mX85_first mX85_second mX85_codes ⟨A, G, nq, nF, FF, qa, ql, qS, qk, sq, sf, ow, rfl, H, K, hQ, hX⟩
    unfold qTl at P
    rw [pif_f no'] at P
    exact ⟨fun w => absurd w (by decide), fun _ => ⟨by omega, by omega, P⟩⟩
  · obtain ⟨ea, el⟩ := hQ q hq.1 hq.2
    rw [ea, el] at R' K' ⊢
    have rd : ((0 ≤ q ∧ q < nQ) ∧ ¬ QL q = []) := ⟨hq, by rw [← el]; exact hl⟩
    have e00 : A' 0 0 = A 0 0 := M.2.1 0 0 (by decide) (show (0 : Int) < 1 by decide)
    have sj : 0 ≤ sq q ∧ sq q < nq := (H.qst hq).2.2.2.2.2
    obtain ⟨g1, g2, g3, g4, g5, _⟩ := R'.qst hq
    rw [e00] at g1
    have R1 := R'
    obtain ⟨⟨HL, q0, f0⟩, Fl, D, HF, HQ, HX, HC, HS⟩ := R'
    obtain ⟨s1, s2, s3, s4, s5⟩ := (HQ (sq q) sj.1 sj.2).2.1
    rw [updI_s] at s1 s2 s3 s4 s5
    have fin : ∀ ai2 v, qcO A' ai' ai2 → ((qcZ kf lf rt na (QA q) (QL q)).2 = 0 → v = if 0 ≤ i then qNth (qAny (qcFa cf rf) (qcZ kf lf rt na (QA q) (QL q))) i else -1) → (¬ (qcZ kf lf rt na (QA q) (QL q)).2 = 0 → v = -3) → post v kd' an' ai2 ar' fi' se' n' hl' oc' qc' qlg' kn' f1' f2' cd' := fun ai2 v O2 v0 v1 => by
      have P := hp kd' an' ai2 ar' fi' se' n' hl' oc' qc' qlg' kn' f1' f2' cd' ⟨A', G', nq, nF', FF', qa, ql, _, _, sq, sf, ow, e00, by rw [O2.up]; exact R1.gw, K', hQ, hX⟩
      unfold qTl at P
      rw [pif_t rd] at P
      by_cases w : (qcZ kf lf rt na (QA q) (QL q)).2 = 0
      · rw [if_pos w] at P
        rw [v0 w]; exact P
      · rw [if_neg w] at P
        rw [v1 w]; exact P
    have same : qcO A' ai' ai' := fun _ _ => rfl
    have h6 : ∀ F ∈ ((updI qS (sq q) (qcZ kf lf rt na (QA q) (QL q))) (sq q)).1, F.1 < 6 ∧ F.2.1 < 6 := fun F hF => by
      rw [updI_s] at hF
      obtain ⟨t, ht, et⟩ := gD_ex (d := (0, 0, [])) hF
      obtain ⟨r, hr, _, ft⟩ := s5 (t : Int) (by omega) (by omega)
      rw [show ((t : Int)).toNat = t by omega, et] at ft
      rw [← ft]; exact (HF r hr.1 hr.2).2.2.2.2
    have hqq : ∀ F ∈ ((updI qS (sq q) (qcZ kf lf rt na (QA q) (QL q))) (sq q)).1, qcAq (qa (sq q)) F := fun F hF => by
      rw [updI_s] at hF
      rw [ea]; exact qcZ_q F hF
    have eS : (updI qS (sq q) (qcZ kf lf rt na (QA q) (QL q))) (sq q) = (qcZ kf lf rt na (QA q) (QL q)) := updI_s
    have nth : ∀ v, (∀ t, 0 ≤ t → t < 192 → ¬ (qAny (qcFa cf rf) (qcZ kf lf rt na (QA q) (QL q)) t ∧ cntI (qAny (qcFa cf rf) (qcZ kf lf rt na (QA q) (QL q))) t.toNat = i)) → v = -1 → v = (if 0 ≤ i then qNth (qAny (qcFa cf rf) (qcZ kf lf rt na (QA q) (QL q))) i else -1) := fun v h ev => by
      rw [ev]
      by_cases y : 0 ≤ i
      · rw [if_pos y]
        unfold qNth
        have e : fstI (fun z => qAny (qcFa cf rf) (qcZ kf lf rt na (QA q) (QL q)) z ∧ cntI (qAny (qcFa cf rf) (qcZ kf lf rt na (QA q) (QL q))) z.toNat = i) 192 = 192 := fstI_u (by decide) (Int.le_refl _) (fun w => absurd w (by decide)) (fun t t0 t1 => h t t0 t1)
        rw [e, if_neg (by decide)]
      · rw [if_neg y]
    by_cases w : (qcZ kf lf rt na (QA q) (QL q)).2 = 0
    · rw [if_pos w]
      refine ⟨fun _ => ⟨fun i0 => ⟨fun z => absurd z (by decide), fun _ => ⟨by omega, by omega, fin ai' _ same (fun _ => by rw [if_neg (by omega)]) (fun z => absurd w z)⟩⟩, fun i0 => ⟨fun i1 => kOn_of g1 ⟨g2, by rw [g3]; have := HS.1.2; omega, fun r1 e1 => ⟨⟨by omega, by omega⟩, ?_⟩⟩, fun i1 => ⟨fun z => absurd z (by decide), fun _ => ⟨by omega, by omega, fin ai' _ same (fun _ => nth _ (fun t t0 t1 h => ?_) rfl) (fun z => absurd w z)⟩⟩⟩⟩, fun z => absurd (by decide) z⟩
      · rw [g4] at e1
        rw [e1, ← e00]
        refine CQR_answerAt R1 sj (fun _ _ => rfl) hqq h6 (by omega) (fun z ai2 O2 hz an_ hc => ⟨fun _ => ⟨by omega, by omega, fin ai2 _ O2 (fun _ => ?_) (fun z => absurd w z)⟩, fun y => by omega⟩) (fun ai2 O2 no => ⟨fun y => ?_, fun _ => ⟨by omega, by omega, fin ai2 _ O2 (fun _ => nth _ (fun t t0 t1 h => no t t0 t1 (by rw [eS]; exact h)) rfl) (fun z => absurd w z)⟩⟩)
        · rw [eS] at an_ hc
          rw [if_pos (by omega)]
          unfold qNth
          have e : fstI (fun z => qAny (qcFa cf rf) (qcZ kf lf rt na (QA q) (QL q)) z ∧ cntI (qAny (qcFa cf rf) (qcZ kf lf rt na (QA q) (QL q))) z.toNat = i) 192 = z := fstI_u hz.1 (by show z ≤ 192; omega) (fun _ => ⟨an_, hc⟩) (fun t t0 t1 h => by
            have m1 : cntI (qAny (qcFa cf rf) (qcZ kf lf rt na (QA q) (QL q))) (t + 1).toNat ≤ cntI (qAny (qcFa cf rf) (qcZ kf lf rt na (QA q) (QL q))) z.toNat := qcCm (by omega)
            rw [cntI_t t0 h.1] at m1
            omega)
          rw [e, if_pos (by omega)]
        · rw [eS] at y
          have := cntI_b (qAny (qcFa cf rf) (qcZ kf lf rt na (QA q) (QL q))) 192
          omega
      · have := cntI_b (qAny (qcFa cf rf) (qcZ kf lf rt na (QA q) (QL q))) t.toNat
        omega
    · rw [if_neg w]
      exact ⟨fun z => absurd z (by decide), fun _ => ⟨by omega, by omega, fin ai' _ same (fun z => absurd z w) (fun _ => rfl)⟩⟩
theorem CQR_why {post : Int → (Nat → Nat) → (Nat → Nat) → (Nat → Int → Int) → (Nat → Int → Option Nat) → (Nat → Int) → (Nat → Int) → (Nat → Int) → (Nat → Int) → (Nat → Int) → (Nat → Int) → (Nat → Int) → (Nat → Int) → (Nat → Int) → (Nat → Int) → (Nat → Option Nat) → Prop} (Rm : qcRm kd an ai al ar mX40_kinds mX40_lefts mX40_rights mX40_axioms mX40_classFacts mX40_roleFacts mX40_facts mX40_draft mX40_questions mX40_questionCount mX40_forbidden mX40_given mX41_first mX41_second mX41_names mX41_from mX41_to mX41_n mX41_codes mX41_least mX41_hasLeast mX41_others mX41_otherCount mX41_named mX62_answers mX62_names mX62_from mX62_to mX62_n mX62_forms mX62_count mX62_large mX62_known mX85_first mX85_second mX85_codes x kf lf rt na cf rf nf nQ QA QL) (bC : 180 ≤ MC) (bS : 630 ≤ MS) (hp : ∀ kd' an' ai' ar' fi' se' n' hl' oc' qc' qlg' kn' f1' f2' cd', qcRm (kd') (an') (ai') al (ar') mX40_kinds mX40_lefts mX40_rights mX40_axioms mX40_classFacts mX40_roleFacts mX40_facts mX40_draft mX40_questions mX40_questionCount mX40_forbidden mX40_given (fi') (se') mX41_names mX41_from mX41_to (n') mX41_codes mX41_least (hl') mX41_others (oc') mX41_named mX62_answers mX62_names mX62_from mX62_to mX62_n mX62_forms (qc') (qlg') (kn') (f1') (f2') (cd') x kf lf rt na cf rf nf nQ QA QL → post (qTl ((0 ≤ q ∧ q < nQ) ∧ ¬ QL q = []) (qcZ kf lf rt na (QA q) (QL q)) (if 0 ≤ z ∧ z < 192 then qWhy (qcFa cf rf) (qcZ kf lf rt na (QA q) (QL q)) z else -1)) kd' an' ai' ar' fi' se' n' hl' oc' qc' qlg' kn' f1' f2' cd') : wpQR_X40_why MC MS post kd an ai ar mX40_kinds mX40_lefts mX40_rights mX40_axioms mX40_classFacts mX40_roleFacts mX40_draft mX40_questions mX40_questionCount mX40_given mX41_first mX41_second mX41_names mX41_from mX41_to mX41_n mX41_codes mX41_least mX41_hasLeast mX41_others mX41_otherCount mX41_named mX62_answers mX62_names mX62_from mX62_to mX62_n mX62_forms mX62_count mX62_large mX62_known mX85_first mX85_second mX85_codes x q z := by
  obtain ⟨A, G, nq, nF, FF, qa, ql, qS, qk, sq, sf, ow, e0, H, K, hQ, hX⟩ := Rm
  subst e0
  unfold wpQR_X40_why
  refine ⟨MC, MS, ⟨by omega, by omega⟩, CQR_ready H K bC bS (fun no _ => ?_) (fun hq hl kd' an' ai' ar' fi' se' n' hl' oc' qc' qlg' kn' f1' f2' cd' A' G' nF' FF' M R' K' _ => ?_)⟩
  · have no' : ¬ ((0 ≤ q ∧ q < nQ) ∧ ¬ QL q = []) := fun w => no ⟨w.1, by rw [(hQ q w.1.1 w.1.2).2]; exact w.2⟩
    have P := hp kd an ai ar mX41_first mX41_second mX41_n mX41_hasLeast mX41_otherCount mX62_count mX62_large mX62_known mX85_first mX85_second mX85_codes ⟨A, G, nq, nF, FF, qa, ql, qS, qk, sq, sf, ow, rfl, H, K, hQ, hX⟩
    unfold qTl at P
    rw [pif_f no'] at P
    exact ⟨fun w => absurd w (by decide), fun _ => ⟨by omega, by omega, P⟩⟩
  · obtain ⟨ea, el⟩ := hQ q hq.1 hq.2
    rw [ea, el] at R' K' ⊢
    have rd : ((0 ≤ q ∧ q < nQ) ∧ ¬ QL q = []) := ⟨hq, by rw [← el]; exact hl⟩
    have e00 : A' 0 0 = A 0 0 := M.2.1 0 0 (by decide) (show (0 : Int) < 1 by decide)
    have sj : 0 ≤ sq q ∧ sq q < nq := (H.qst hq).2.2.2.2.2
    obtain ⟨g1, g2, g3, g4, g5, _⟩ := R'.qst hq
    rw [e00] at g1
    have R1 := R'
    obtain ⟨⟨HL, q0, f0⟩, Fl, D, HF, HQ, HX, HC, HS⟩ := R'
    obtain ⟨s1, s2, s3, s4, s5⟩ := (HQ (sq q) sj.1 sj.2).2.1
    rw [updI_s] at s1 s2 s3 s4 s5
    have fin : ∀ ai2 v, qcO A' ai' ai2 → ((qcZ kf lf rt na (QA q) (QL q)).2 = 0 → v = if 0 ≤ z ∧ z < 192 then qWhy (qcFa cf rf) (qcZ kf lf rt na (QA q) (QL q)) z else -1) → (¬ (qcZ kf lf rt na (QA q) (QL q)).2 = 0 → v = -3) → post v kd' an' ai2 ar' fi' se' n' hl' oc' qc' qlg' kn' f1' f2' cd' := fun ai2 v O2 v0 v1 => by
      have P := hp kd' an' ai2 ar' fi' se' n' hl' oc' qc' qlg' kn' f1' f2' cd' ⟨A', G', nq, nF', FF', qa, ql, _, _, sq, sf, ow, e00, by rw [O2.up]; exact R1.gw, K', hQ, hX⟩
      unfold qTl at P
      rw [pif_t rd] at P
      by_cases w : (qcZ kf lf rt na (QA q) (QL q)).2 = 0
      · rw [if_pos w] at P
        rw [v0 w]; exact P
      · rw [if_neg w] at P
        rw [v1 w]; exact P
    have same : qcO A' ai' ai' := fun _ _ => rfl
    have h6 : ∀ F ∈ ((updI qS (sq q) (qcZ kf lf rt na (QA q) (QL q))) (sq q)).1, F.1 < 6 ∧ F.2.1 < 6 := fun F hF => by
      rw [updI_s] at hF
      obtain ⟨t, ht, et⟩ := gD_ex (d := (0, 0, [])) hF
      obtain ⟨r, hr, _, ft⟩ := s5 (t : Int) (by omega) (by omega)
      rw [show ((t : Int)).toNat = t by omega, et] at ft
      rw [← ft]; exact (HF r hr.1 hr.2).2.2.2.2
    have hqq : ∀ F ∈ ((updI qS (sq q) (qcZ kf lf rt na (QA q) (QL q))) (sq q)).1, qcAq (qa (sq q)) F := fun F hF => by
      rw [updI_s] at hF
      rw [ea]; exact qcZ_q F hF
    have eS : (updI qS (sq q) (qcZ kf lf rt na (QA q) (QL q))) (sq q) = (qcZ kf lf rt na (QA q) (QL q)) := updI_s
    have noW : ¬ qcIa (qa (sq q)) z → (-1 : Int) = if 0 ≤ z ∧ z < 192 then qWhy (qcFa cf rf) (qcZ kf lf rt na (QA q) (QL q)) z else -1 := fun h => by
      by_cases y : 0 ≤ z ∧ z < 192
      · rw [if_pos y]
        have ny : ¬ qAny (qcFa cf rf) (qcZ kf lf rt na (QA q) (QL q)) z := fun ⟨F, hF, ha⟩ => h (qcAns_i (hqq F (by rw [eS]; exact hF)) (h6 F (by rw [eS]; exact hF)) ha).1
        have := fun w => ny (qWhy_any.1 w)
        unfold qWhy at this ⊢
        split
        · rename_i u
          rw [if_pos u] at this
          exact absurd (fstI_s _ _).1.1 this
        · rfl
      · rw [if_neg y]
    by_cases w : (qcZ kf lf rt na (QA q) (QL q)).2 = 0
    · rw [if_pos w]
      refine ⟨fun _ => kOn_of g1 ⟨g2, by rw [g3]; have := HS.1.2; omega, fun r1 e1 => ⟨⟨by omega, by omega⟩, ?_⟩⟩, fun z => absurd (by decide) z⟩
      rw [g4] at e1
      rw [e1, ← e00]
      refine CQR_isAnswerB R1 sj (fun ia => ⟨⟨by omega, by omega⟩, CQR_firstWith R1 sj (fun _ _ => rfl) hqq ia (fun ai2 O2 => ⟨by omega, by omega, fin ai2 _ O2 (fun _ => ?_) (fun z => absurd w z)⟩)⟩) (fun nia => ⟨by omega, by omega, fin ai' _ same (fun _ => noW nia) (fun z => absurd w z)⟩)
      rw [eS]
      have : 0 ≤ z ∧ z < 192 := by
        unfold qcIa at ia
        have h1 := ia.2.1
        have : (if 0 < qa (sq q) then (12 : Int) else 1) ≤ 12 := by split <;> decide
        omega
      rw [if_pos this]
    · rw [if_neg w]
      exact ⟨fun z => absurd z (by decide), fun _ => ⟨by omega, by omega, fin ai' _ same (fun z => absurd z w) (fun _ => rfl)⟩⟩
theorem CQR_makeE {post : (Nat → Nat) → (Nat → Nat) → (Nat → Int → Int) → (Nat → Int → Option Nat) → (Nat → Int) → (Nat → Int) → (Nat → Int) → (Nat → Int) → (Nat → Int) → (Nat → Int) → (Nat → Int) → (Nat → Int) → (Nat → Int) → (Nat → Int) → (Nat → Option Nat) → Prop} {x0 : Nat} (e0 : A 0 0 = x0) (H : qcR kd an ai al ar mX40_kinds mX40_lefts mX40_rights mX40_axioms mX40_classFacts mX40_roleFacts mX40_facts mX40_draft mX40_questions mX40_questionCount mX40_forbidden mX40_given mX41_first mX41_second mX41_names mX41_from mX41_to mX41_n mX41_codes mX41_least mX41_hasLeast mX41_others mX41_otherCount mX41_named mX62_answers mX62_names mX62_from mX62_to mX62_n mX62_forms mX62_count mX62_large mX62_known mX85_first mX85_second mX85_codes A G nq nF FF qa ql qS qk kf lf rt na cf rf nf nQ sq sf ow) (hj : 0 ≤ j ∧ j < nq) (hn : 1 ≤ mX62_n (A 9 j)) (hc : qk j = na → qS j = (qcZ kf lf rt na (qa j) (ql j))) (bC : 180 ≤ MC) (bS : 630 ≤ MS) (hp : ∀ kd' an' ai' ar' fi' se' n' hl' oc' qc' qlg' kn' f1' f2' cd' A' G' nF' FF', qcM A A' nq nF nF' FF FF' → qcR (kd') (an') (ai') al (ar') mX40_kinds mX40_lefts mX40_rights mX40_axioms mX40_classFacts mX40_roleFacts mX40_facts mX40_draft mX40_questions mX40_questionCount mX40_forbidden mX40_given (fi') (se') mX41_names mX41_from mX41_to (n') mX41_codes mX41_least (hl') mX41_others (oc') mX41_named mX62_answers mX62_names mX62_from mX62_to mX62_n mX62_forms (qc') (qlg') (kn') (f1') (f2') (cd') A' G' nq nF' FF' qa ql (updI qS j (qcZ kf lf rt na (qa j) (ql j))) (updI qk j na) kf lf rt na cf rf nf nQ sq sf ow → post kd' an' ai' ar' fi' se' n' hl' oc' qc' qlg' kn' f1' f2' cd') : wpQR_X40_make MC MS post kd an ai ar mX40_kinds mX40_lefts mX40_rights mX40_axioms mX40_draft mX41_first mX41_second mX41_names mX41_from mX41_to mX41_n mX41_codes mX41_least mX41_hasLeast mX41_others mX41_otherCount mX41_named mX62_answers mX62_names mX62_from mX62_to mX62_n mX62_forms mX62_count mX62_large mX62_known mX85_first mX85_second mX85_codes x0 (some (A 9 j)) := by
  subst e0
  exact CQR_make H hj hn hc bC bS hp
theorem CQR_firstWithE {post : Int → (Nat → Int → Int) → Prop} {x0 : Nat} (e0 : A 0 0 = x0) (H : qcR kd an ai al ar mX40_kinds mX40_lefts mX40_rights mX40_axioms mX40_classFacts mX40_roleFacts mX40_facts mX40_draft mX40_questions mX40_questionCount mX40_forbidden mX40_given mX41_first mX41_second mX41_names mX41_from mX41_to mX41_n mX41_codes mX41_least mX41_hasLeast mX41_others mX41_otherCount mX41_named mX62_answers mX62_names mX62_from mX62_to mX62_n mX62_forms mX62_count mX62_large mX62_known mX85_first mX85_second mX85_codes A G nq nF FF qa ql qS qk kf lf rt na cf rf nf nQ sq sf ow) (hj : 0 ≤ j ∧ j < nq) (hq : ∀ F ∈ (qS j).1, qcAq q F) (hz : qcIa q z) (hp : ∀ ai2, qcO A ai ai2 → post (qWhy (qcFa cf rf) (qS j) z) ai2) : wpQR_X40_firstWith post kd an ai ar mX40_classFacts mX40_roleFacts mX40_given mX62_forms mX62_count mX85_first mX85_second mX85_codes x0 (some (A 9 j)) z := by
  subst e0
  exact CQR_firstWith H hj (fun _ _ => rfl) hq hz hp
theorem CQR_br {post : Int → (Nat → Nat) → (Nat → Nat) → (Nat → Int → Int) → (Nat → Int → Option Nat) → (Nat → Int) → (Nat → Int) → (Nat → Int) → (Nat → Int) → (Nat → Int) → (Nat → Int) → (Nat → Int) → (Nat → Int) → (Nat → Int) → (Nat → Int) → (Nat → Option Nat) → Prop} (hQ : ∀ q, 0 ≤ q → q < nQ → qa (sq q) = QA q ∧ ql (sq q) = QL q) (hX : ∀ y, 0 ≤ y → y < na → 2 ≤ kf y → qa (sf y) = 0 ∧ ql (sf y) = qcLy (kf y) (lf y) (rt y)) : ∀ (p : Nat) (y : Int) (kd1 an1 : Nat → Nat) (ai1 : Nat → Int → Int) (ar1 : Nat → Int → Option Nat) (fi1 se1 n1 hl1 oc1 qc1 qlg1 kn1 f11 f21 : Nat → Int) (cd1 : Nat → Option Nat) (kc ks : Nat) (A1 : Nat → Int → Nat) (G1 : Nat → Nat × Int) (nF1 : Int) (FF1 : Int → qFo) (qS1 : Int → qSS) (qk1 : Int → Int), y + p = na → 0 ≤ y → A1 0 0 = x → qcR kd1 an1 ai1 al ar1 mX40_kinds mX40_lefts mX40_rights mX40_axioms mX40_classFacts mX40_roleFacts mX40_facts mX40_draft mX40_questions mX40_questionCount mX40_forbidden mX40_given fi1 se1 mX41_names mX41_from mX41_to n1 mX41_codes mX41_least hl1 mX41_others oc1 mX41_named mX62_answers mX62_names mX62_from mX62_to mX62_n mX62_forms qc1 qlg1 kn1 f11 f21 cd1 A1 G1 nq nF1 FF1 qa ql qS1 qk1 kf lf rt na cf rf nf nQ sq sf ow → qcK nq na kf lf rt qa ql qS1 qk1 → kc + 180 * p ≤ MC → ks + 630 * p ≤ MS →
  (∀ kd' an' ai' ar' fi' se' n' hl' oc' qc' qlg' kn' f1' f2' cd', qcRm (kd') (an') (ai') al (ar') mX40_kinds mX40_lefts mX40_rights mX40_axioms mX40_classFacts mX40_roleFacts mX40_facts mX40_draft mX40_questions mX40_questionCount mX40_forbidden mX40_given (fi') (se') mX41_names mX41_from mX41_to (n') mX41_codes mX41_least (hl') mX41_others (oc') mX41_named mX62_answers mX62_names mX62_from mX62_to mX62_n mX62_forms (qc') (qlg') (kn') (f1') (f2') (cd') x kf lf rt na cf rf nf nQ QA QL → post (qcBr kf lf rt na (qcFa cf rf) p y) kd' an' ai' ar' fi' se' n' hl' oc' qc' qlg' kn' f1' f2' cd') → wQR_X40_broken_2 MC MS (fun (kd_ an_ : Nat → Nat) (ai_ : Nat → Int → Int) (ar_ : Nat → Int → Option Nat) (fi_ se_ n_ hl_ oc_ qc_ qlg_ kn_ f1_ f2_ : Nat → Int) (cd_ : Nat → Option Nat) (kc_ ks_ : Nat) => (kc_ ≤ MC ∧ ks_ ≤ MS ∧ post (-3) kd_ an_ ai_ ar_ fi_ se_ n_ hl_ oc_ qc_ qlg_ kn_ f1_ f2_ cd_)) (fun (v_ : Int) (kd_ an_ : Nat → Nat) (ai_ : Nat → Int → Int) (ar_ : Nat → Int → Option Nat) (fi_ se_ n_ hl_ oc_ qc_ qlg_ kn_ f1_ f2_ : Nat → Int) (cd_ : Nat → Option Nat) (kc_ ks_ : Nat) => (kc_ ≤ MC ∧ ks_ ≤ MS ∧ post v_ kd_ an_ ai_ ar_ fi_ se_ n_ hl_ oc_ qc_ qlg_ kn_ f1_ f2_ cd_)) (fun (kd_ an_ : Nat → Nat) (ai_ : Nat → Int → Int) (ar_ : Nat → Int → Option Nat) (fi_ se_ n_ hl_ oc_ qc_ qlg_ kn_ f1_ f2_ : Nat → Int) (cd_ : Nat → Option Nat) (kc_ ks_ : Nat) => (kc_ ≤ MC ∧ ks_ ≤ MS ∧ post (-1) kd_ an_ ai_ ar_ fi_ se_ n_ hl_ oc_ qc_ qlg_ kn_ f1_ f2_ cd_)) x mX40_kinds mX40_lefts mX40_rights mX40_axioms mX40_classFacts mX40_roleFacts mX40_draft mX40_forbidden mX40_given mX41_names mX41_from mX41_to mX41_codes mX41_least mX41_others mX41_named mX62_answers mX62_names mX62_from mX62_to mX62_n mX62_forms (p + 1) y kd1 an1 ai1 ar1 fi1 se1 n1 hl1 oc1 qc1 qlg1 kn1 f11 f21 cd1 kc ks := fun p => by
  induction p with
  | zero =>
    intro y kd1 an1 ai1 ar1 fi1 se1 n1 hl1 oc1 qc1 qlg1 kn1 f11 f21 cd1 kc ks A1 G1 nF1 FF1 qS1 qk1 hy y0 e0 H K bC bS hp
    have eax : mX40_axioms x = na := by rw [← e0]; exact H.2.2.2.2.2.1.1
    rw [wQR_X40_broken_2]
    refine ⟨fun _ => ⟨by omega, by omega, hp _ _ _ _ _ _ _ _ _ _ _ _ _ _ _ ⟨A1, G1, nq, nF1, FF1, qa, ql, qS1, qk1, sq, sf, ow, e0, H, K, hQ, hX⟩⟩, fun z => by rw [eax] at z; omega⟩
  | succ p IH =>
    intro y kd1 an1 ai1 ar1 fi1 se1 n1 hl1 oc1 qc1 qlg1 kn1 f11 f21 cd1 kc ks A1 G1 nF1 FF1 qS1 qk1 hy y0 e0 H K bC bS hp
    have H0 := H
    obtain ⟨⟨HL, q0, f0_⟩, Fl, D, HF, HQ, HX, HC, HS⟩ := H
    have eax : mX40_axioms x = na := by rw [← e0]; exact HX.1
    have n16 : na ≤ 16 := HX.2.1.1.2
    have eFb : mX40_forbidden x = some (A1 7 0) := by rw [← e0]; exact Fl.2.2.2.2.1
    have h7 := HL 7 0 (by decide) (show (0 : Int) < 1 by decide)
    have a7 : an1 (A1 7 0) = 16 := h7.2.2 (by decide)
    obtain ⟨c0, c1⟩ := HS.2.2 y y0 (by omega)
    have eB : qcBr kf lf rt na (qcFa cf rf) (p + 1) y = if 2 ≤ kf y then (if (qcZ kf lf rt na 0 (qcLy (kf y) (lf y) (rt y))).2 = 0 then pif (qAny (qcFa cf rf) (qcZ kf lf rt na 0 (qcLy (kf y) (lf y) (rt y))) 0) y (qcBr kf lf rt na (qcFa cf rf) p (y + 1)) else -3) else qcBr kf lf rt na (qcFa cf rf) p (y + 1) := rfl
    obtain ⟨c1_, c2_⟩ := qcB1 bC
    obtain ⟨d1_, d2_⟩ := qcB1 bS
    rw [wQR_X40_broken_2]
    refine ⟨fun z => by rw [eax] at z; omega, fun _ => kOn_of eFb ⟨h7.2.1.1, by rw [a7]; omega, fun r5 e5 => ?_⟩⟩
    by_cases k2 : 2 ≤ kf y
    · obtain ⟨t1, t2, t3⟩ := c1 k2
      rw [t1] at e5
      obtain ⟨ea, el⟩ := hX y y0 (by omega) k2
      have n0 := H0.n0 t2
      have n4 := (HQ (sf y) t2.1 t2.2).1.2.2.1
      rw [e5]
      refine ⟨fun z => absurd z (by simp), fun b6 e6 r10 e10 => ?_⟩
      rw [t1] at e10
      rw [e10]
      refine ⟨180, 630, ⟨c1_, d1_⟩, CQR_makeE e0 H0 t2 ?_ (K (sf y) t2.1 t2.2).2 (Nat.le_refl _) (Nat.le_refl _) (fun kd' an' ai' ar' fi' se' n' hl' oc' qc' qlg' kn' f1' f2' cd' A' G' nF' FF' M R' le => ?_)⟩
      · have : ¬ mX62_n (A1 9 (sf y)) = 0 := fun w => qcLy_ne (by rw [← el]; exact n0.1 w)
        omega
      rw [ea, el] at R'
      rw [if_pos k2] at eB
      have e00 : A' 0 0 = x := (M.2.1 0 0 (by decide) (show (0 : Int) < 1 by decide)).trans e0
      have e70 : A' 7 0 = A1 7 0 := M.2.1 7 0 (by decide) (show (0 : Int) < 1 by decide)
      have K' : qcK nq na kf lf rt qa ql (updI qS1 (sf y) (qcZ kf lf rt na 0 (qcLy (kf y) (lf y) (rt y)))) (updI qk1 (sf y) na) := fun i i0 i1 => by
        rw [updI_e, updI_e]
        by_cases w : i = sf y
        · rw [if_pos w, if_pos w, w, ea, el]; exact ⟨Int.le_refl _, fun _ => rfl⟩
        · rw [if_neg w, if_neg w]; exact K i i0 i1
      have R1 := R'
      obtain ⟨⟨HL', _, _⟩, Fl', D', HF', HQ', HX', HC', HS'⟩ := R'
      obtain ⟨u1, u2, _⟩ := (HS'.2.2 y y0 (by omega)).2 k2
      rw [e70] at u1
      have k9 : kd' (A' 9 (sf y)) = 3 := (HL' 9 (sf y) t2.1 (show sf y < nq from t2.2)).2.1.1
      obtain ⟨s1, s2, s3, s4, s5⟩ := (HQ' (sf y) t2.1 t2.2).2.1
      rw [updI_s] at s3
      have l7 := le (A1 7 0) (by rw [h7.2.1.1]; decide)
      have eS : (updI qS1 (sf y) (qcZ kf lf rt na 0 (qcLy (kf y) (lf y) (rt y)))) (sf y) = (qcZ kf lf rt na 0 (qcLy (kf y) (lf y) (rt y))) := updI_s
      refine ⟨by rw [l7.2, a7]; omega, fun r31 e31 => ?_⟩
      rw [u1] at e31
      rw [e31]
      refine kOn_some ⟨k9, fun lz r35 e35 => ⟨⟨c1_, d1_⟩, ?_⟩, fun lz => ⟨c1_, d1_, ?_⟩⟩
      · rw [u1] at e35
        rw [e35]
        rw [s3] at lz
        rw [if_pos lz] at eB
        refine CQR_firstWithE (q := 0) e00 R1 t2 (fun F hF => by rw [eS] at hF; exact qcZ_q F hF) (by unfold qcIa; decide) (fun ai2 O2 => ?_)
        rw [eS]
        have R2 : qcR (kd') (an') ai2 al (ar') mX40_kinds mX40_lefts mX40_rights mX40_axioms mX40_classFacts mX40_roleFacts mX40_facts mX40_draft mX40_questions mX40_questionCount mX40_forbidden mX40_given (fi') (se') mX41_names mX41_from mX41_to (n') mX41_codes mX41_least (hl') mX41_others (oc') mX41_named mX62_answers mX62_names mX62_from mX62_to mX62_n mX62_forms (qc') (qlg') (kn') (f1') (f2') (cd') A' G' nq nF' FF' qa ql (updI qS1 (sf y) (qcZ kf lf rt na 0 (qcLy (kf y) (lf y) (rt y)))) (updI qk1 (sf y) na) kf lf rt na cf rf nf nQ sq sf ow := by rw [O2.up]; exact R1.gw
        refine ⟨fun lt => ⟨by omega, fun y' ey => ?_⟩, fun ge => ⟨c1_, d1_, ?_⟩⟩
        · have na_ : ¬ qAny (qcFa cf rf) (qcZ kf lf rt na 0 (qcLy (kf y) (lf y) (rt y))) 0 := fun w => by have := qWhy_any.2 w; omega
          rw [pif_f na_] at eB
          rw [eB] at hp
          rw [ey]
          exact IH (y + 1) _ _ _ _ _ _ _ _ _ _ _ _ _ _ _ _ _ A' G' nF' FF' _ _ (by omega) (by omega) e00 R2 K' c2_ d2_ hp
        · have an_ : qAny (qcFa cf rf) (qcZ kf lf rt na 0 (qcLy (kf y) (lf y) (rt y))) 0 := qWhy_any.1 (by omega)
          rw [pif_t an_] at eB
          rw [eB] at hp
          exact hp _ _ _ _ _ _ _ _ _ _ _ _ _ _ _ ⟨A', G', nq, nF', FF', qa, ql, _, _, sq, sf, ow, e00, R2, K', hQ, hX⟩
      · rw [s3] at lz
        rw [if_neg lz] at eB
        rw [eB] at hp
        exact hp _ _ _ _ _ _ _ _ _ _ _ _ _ _ _ ⟨A', G', nq, nF', FF', qa, ql, _, _, sq, sf, ow, e00, R1, K', hQ, hX⟩
    · have t1 := c0 (by omega)
      rw [t1] at e5
      rw [if_neg k2] at eB
      rw [eB] at hp
      rw [e5]
      refine ⟨fun _ => ⟨by omega, fun y' ey => ?_⟩, fun b6 e6 => absurd e6 (by simp)⟩
      rw [ey]
      exact IH (y + 1) _ _ _ _ _ _ _ _ _ _ _ _ _ _ _ _ _ A1 G1 nF1 FF1 qS1 qk1 (by omega) (by omega) e0 H0 K (Nat.le_trans (Nat.add_le_add_right (Nat.le_add_right kc 180) _) c2_) (Nat.le_trans (Nat.add_le_add_right (Nat.le_add_right ks 630) _) d2_) hp
theorem CQR_broken {post : Int → (Nat → Nat) → (Nat → Nat) → (Nat → Int → Int) → (Nat → Int → Option Nat) → (Nat → Int) → (Nat → Int) → (Nat → Int) → (Nat → Int) → (Nat → Int) → (Nat → Int) → (Nat → Int) → (Nat → Int) → (Nat → Int) → (Nat → Int) → (Nat → Option Nat) → Prop} (Rm : qcRm kd an ai al ar mX40_kinds mX40_lefts mX40_rights mX40_axioms mX40_classFacts mX40_roleFacts mX40_facts mX40_draft mX40_questions mX40_questionCount mX40_forbidden mX40_given mX41_first mX41_second mX41_names mX41_from mX41_to mX41_n mX41_codes mX41_least mX41_hasLeast mX41_others mX41_otherCount mX41_named mX62_answers mX62_names mX62_from mX62_to mX62_n mX62_forms mX62_count mX62_large mX62_known mX85_first mX85_second mX85_codes x kf lf rt na cf rf nf nQ QA QL) (bC : 2880 ≤ MC) (bS : 10080 ≤ MS) (hp : ∀ kd' an' ai' ar' fi' se' n' hl' oc' qc' qlg' kn' f1' f2' cd', qcRm (kd') (an') (ai') al (ar') mX40_kinds mX40_lefts mX40_rights mX40_axioms mX40_classFacts mX40_roleFacts mX40_facts mX40_draft mX40_questions mX40_questionCount mX40_forbidden mX40_given (fi') (se') mX41_names mX41_from mX41_to (n') mX41_codes mX41_least (hl') mX41_others (oc') mX41_named mX62_answers mX62_names mX62_from mX62_to mX62_n mX62_forms (qc') (qlg') (kn') (f1') (f2') (cd') x kf lf rt na cf rf nf nQ QA QL → post (qcBr kf lf rt na (qcFa cf rf) na.toNat 0) kd' an' ai' ar' fi' se' n' hl' oc' qc' qlg' kn' f1' f2' cd') : wpQR_X40_broken MC MS post kd an ai ar mX40_kinds mX40_lefts mX40_rights mX40_axioms mX40_classFacts mX40_roleFacts mX40_draft mX40_forbidden mX40_given mX41_first mX41_second mX41_names mX41_from mX41_to mX41_n mX41_codes mX41_least mX41_hasLeast mX41_others mX41_otherCount mX41_named mX62_answers mX62_names mX62_from mX62_to mX62_n mX62_forms mX62_count mX62_large mX62_known mX85_first mX85_second mX85_codes x := by
  obtain ⟨A, G, nq, nF, FF, qa, ql, qS, qk, sq, sf, ow, e0, H, K, hQ, hX⟩ := Rm
  have n16 := H.2.2.2.2.2.1.2.1.1
  unfold wpQR_X40_broken
  exact ⟨_, CQR_br hQ hX na.toNat 0 _ _ _ _ _ _ _ _ _ _ _ _ _ _ _ 0 0 A G nF FF qS qk (by omega) (by omega) e0 H K (by omega) (by omega) hp⟩
theorem CQR_count {post : Int → Prop} (Rm : qcRm kd an ai al ar mX40_kinds mX40_lefts mX40_rights mX40_axioms mX40_classFacts mX40_roleFacts mX40_facts mX40_draft mX40_questions mX40_questionCount mX40_forbidden mX40_given mX41_first mX41_second mX41_names mX41_from mX41_to mX41_n mX41_codes mX41_least mX41_hasLeast mX41_others mX41_otherCount mX41_named mX62_answers mX62_names mX62_from mX62_to mX62_n mX62_forms mX62_count mX62_large mX62_known mX85_first mX85_second mX85_codes x kf lf rt na cf rf nf nQ QA QL) (hp : post (if w = 0 then na else if w = 1 then nf else if w = 2 then nQ else -1)) : wpQR_X40_count post mX40_axioms mX40_facts mX40_questionCount x w := by
  obtain ⟨A, G, nq, nF, FF, qa, ql, qS, qk, sq, sf, ow, e0, H, K, hQ, hX⟩ := Rm
  subst e0
  have e1 := H.2.2.2.2.2.1.1
  have e2 := H.2.2.2.2.2.2.1.2.2.1
  have e3 := H.2.2.2.2.2.2.2.1.1
  unfold wpQR_X40_count
  rw [e1, e2, e3]
  refine ⟨fun z => by rw [if_pos z] at hp; exact hp, fun z => ⟨fun y => by rw [if_neg z, if_pos y] at hp; exact hp, fun y => ⟨fun u => by rw [if_neg z, if_neg y, if_pos u] at hp; exact hp, fun u => by rw [if_neg z, if_neg y, if_neg u] at hp; exact hp⟩⟩⟩
theorem CQR_clear {post : Int → (Nat → Int) → Prop} (Rm : qcRm kd an ai al ar mX40_kinds mX40_lefts mX40_rights mX40_axioms mX40_classFacts mX40_roleFacts mX40_facts mX40_draft mX40_questions mX40_questionCount mX40_forbidden mX40_given mX41_first mX41_second mX41_names mX41_from mX41_to mX41_n mX41_codes mX41_least mX41_hasLeast mX41_others mX41_otherCount mX41_named mX62_answers mX62_names mX62_from mX62_to mX62_n mX62_forms mX62_count mX62_large mX62_known mX85_first mX85_second mX85_codes x kf lf rt na cf rf nf nQ QA QL) (hp : ∀ qn', qcRm kd an ai al ar mX40_kinds mX40_lefts mX40_rights mX40_axioms mX40_classFacts mX40_roleFacts mX40_facts mX40_draft mX40_questions (qn') mX40_forbidden mX40_given mX41_first mX41_second mX41_names mX41_from mX41_to mX41_n mX41_codes mX41_least mX41_hasLeast mX41_others mX41_otherCount mX41_named mX62_answers mX62_names mX62_from mX62_to mX62_n mX62_forms mX62_count mX62_large mX62_known mX85_first mX85_second mX85_codes x kf lf rt na cf rf nf 0 QA QL → post nQ qn') : wpQR_X40_clear post mX40_questionCount x := by
  obtain ⟨A, G, nq, nF, FF, qa, ql, qS, qk, sq, sf, ow, e0, H, K, hQ, hX⟩ := Rm
  subst e0
  obtain ⟨hb, Fl, D, HF, HQ, HX, HC, HS⟩ := H
  unfold wpQR_X40_clear
  intro v ev qn' eq
  rw [ev, HS.1.1]
  refine hp _ ⟨A, G, nq, nF, FF, qa, ql, qS, qk, sq, sf, ow, rfl, ⟨hb, Fl, D, HF, HQ, HX, HC, ?_⟩, K, fun q q0 q1 => by omega, hX⟩
  exact ⟨⟨by rw [eq, va_up_self], by decide, by decide⟩, fun q q0 q1 => by omega, HS.2.2⟩
end
