/-! QlRewrite (room QR): questions and their atoms -/
theorem labFr {K L : Nat → Nat} {kd an kd' an' : Nat → Nat} {A : Nat → Int → Nat} {g : Nat → Nat × Int} {N : Nat → Int} (H : Lab K L kd an A g N) (le : kLe kd an kd' an') {p : Nat} (hp : kd' p = 0) {i : Nat} {j : Int} (j0 : 0 ≤ j) (j1 : j < N i) : A i j ≠ p := (H.kLe le).fresh hp j0 j1
section
variable {kd : Nat → Nat} {an : Nat → Nat} {ai : Nat → Int → Int} {al : Nat → Int → Int} {ar : Nat → Int → Option Nat} {mX40_kinds : Nat → Option Nat} {mX40_lefts : Nat → Option Nat} {mX40_rights : Nat → Option Nat} {mX40_axioms : Nat → Int} {mX40_classFacts : Nat → Option Nat} {mX40_roleFacts : Nat → Option Nat} {mX40_facts : Nat → Int} {mX40_draft : Nat → Option Nat} {mX40_questions : Nat → Option Nat} {mX40_questionCount : Nat → Int} {mX40_forbidden : Nat → Option Nat} {mX40_given : Nat → Option Nat} {mX41_first : Nat → Int} {mX41_second : Nat → Int} {mX41_names : Nat → Option Nat} {mX41_from : Nat → Option Nat} {mX41_to : Nat → Option Nat} {mX41_n : Nat → Int} {mX41_codes : Nat → Option Nat} {mX41_least : Nat → Option Nat} {mX41_hasLeast : Nat → Int} {mX41_others : Nat → Option Nat} {mX41_otherCount : Nat → Int} {mX41_named : Nat → Option Nat} {mX62_answers : Nat → Int} {mX62_names : Nat → Option Nat} {mX62_from : Nat → Option Nat} {mX62_to : Nat → Option Nat} {mX62_n : Nat → Int} {mX62_forms : Nat → Option Nat} {mX62_count : Nat → Int} {mX62_large : Nat → Int} {mX62_known : Nat → Int} {mX85_first : Nat → Int} {mX85_second : Nat → Int} {mX85_codes : Nat → Option Nat} {A : Nat → Int → Nat} {G : Nat → Nat × Int} {nq nF na nf nQ : Int} {FF : Int → qFo} {qa qk kf lf rt cf rf sq sf ow : Int → Int} {ql : Int → List qA} {qS : Int → qSS} {QA : Int → Int} {QL : Int → List qA} {x : Nat} {j n k v oc i a b o f y r pl fl q w z : Int} {l : List qA} {S : qSS} {MC MS : Nat} {F : qFo}
/-- one more question object -/
theorem qcR.newq {q1 p1 p2 p3 p4 : Nat} {ai' : Nat → Int → Int} {ar' : Nat → Int → Option Nat} {an9' n9' cn' lg' kn' : Nat → Int} {ns' fs' ts' fm' : Nat → Option Nat} (H : qcR kd an ai al ar mX40_kinds mX40_lefts mX40_rights mX40_axioms mX40_classFacts mX40_roleFacts mX40_facts mX40_draft mX40_questions mX40_questionCount mX40_forbidden mX40_given mX41_first mX41_second mX41_names mX41_from mX41_to mX41_n mX41_codes mX41_least mX41_hasLeast mX41_others mX41_otherCount mX41_named mX62_answers mX62_names mX62_from mX62_to mX62_n mX62_forms mX62_count mX62_large mX62_known mX85_first mX85_second mX85_codes A G nq nF FF qa ql qS qk kf lf rt na cf rf nf nQ sq sf ow) (h1 : kd q1 = 0) (h2 : (va_up kd q1 3) p1 = 0) (h3 : (va_up (va_up kd q1 3) p1 5) p2 = 0) (h4 : (va_up (va_up (va_up kd q1 3) p1 5) p2 5) p3 = 0) (h5 : (va_up (va_up (va_up (va_up kd q1 3) p1 5) p2 5) p3 5) p4 = 0) (hv : 0 ≤ v ∧ v < 3) (eai : ∀ b, b ≠ p1 → b ≠ p2 → b ≠ p3 → ai' b = ai b) (ear : ∀ b, b ≠ p4 → ar' b = ar b)
  (f1 : an9' = va_up mX62_answers q1 v) (f2 : ns' = va_up mX62_names q1 (some p1)) (f3 : fs' = va_up mX62_from q1 (some p2)) (f4 : ts' = va_up mX62_to q1 (some p3)) (f5 : fm' = va_up mX62_forms q1 (some p4)) (f6 : n9' = va_up mX62_n q1 0) (f7 : cn' = va_up mX62_count q1 0) (f8 : lg' = va_up mX62_large q1 0) (f9 : kn' = va_up mX62_known q1 (-1)) :
  ∃ A' G', (∀ i t, 0 ≤ t → t < qcLN nq nF i → A' i t = A i t) ∧ A' 9 nq = q1 ∧ qcR ((va_up (va_up (va_up (va_up (va_up kd q1 3) p1 5) p2 5) p3 5) p4 8)) ((va_up (va_up (va_up (va_up an p1 4) p2 4) p3 4) p4 90)) (ai') al (ar') mX40_kinds mX40_lefts mX40_rights mX40_axioms mX40_classFacts mX40_roleFacts mX40_facts mX40_draft mX40_questions mX40_questionCount mX40_forbidden mX40_given mX41_first mX41_second mX41_names mX41_from mX41_to mX41_n mX41_codes mX41_least mX41_hasLeast mX41_others mX41_otherCount mX41_named (an9') (ns') (fs') (ts') (n9') (fm') (cn') (lg') (kn') mX85_first mX85_second mX85_codes A' G' (nq + 1) nF FF (updI qa nq v) (updI ql nq []) (updI qS nq ([], 0)) (updI qk nq (-1)) kf lf rt na cf rf nf nQ sq sf ow := by
  obtain ⟨⟨HL, q0, f0⟩, Fl, D, HF, HQ, HX, HC, HS⟩ := H
  have H1 : Lab qcLK qcLL (va_up kd q1 3) an (aUp A 9 nq q1) _ _ := Lab.new HL h1 9 q0 (by decide) (fun _ _ => rfl) (fun w => absurd rfl w)
  have H2 : Lab qcLK qcLL (va_up (va_up kd q1 3) p1 5) (va_up an p1 4) (aUp (aUp A 9 nq q1) 10 (3 * nq) p1) _ _ := Lab.new H1 h2 10 (show 0 ≤ 3 * nq by omega) (by decide) (fun b hb => va_up_ne _ _ hb) (fun _ => va_up_self _ _ _)
  have H3 : Lab qcLK qcLL (va_up (va_up (va_up kd q1 3) p1 5) p2 5) (va_up (va_up an p1 4) p2 4) (aUp (aUp (aUp A 9 nq q1) 10 (3 * nq) p1) 10 (3 * nq + 1) p2) _ _ := Lab.new H2 h3 10 (show 0 ≤ 3 * nq + 1 by omega) (by decide) (fun b hb => va_up_ne _ _ hb) (fun _ => va_up_self _ _ _)
  have H4 : Lab qcLK qcLL (va_up (va_up (va_up (va_up kd q1 3) p1 5) p2 5) p3 5) (va_up (va_up (va_up an p1 4) p2 4) p3 4) (aUp (aUp (aUp (aUp A 9 nq q1) 10 (3 * nq) p1) 10 (3 * nq + 1) p2) 10 (3 * nq + 1 + 1) p3) _ _ := Lab.new H3 h4 10 (show 0 ≤ 3 * nq + 1 + 1 by omega) (by decide) (fun b hb => va_up_ne _ _ hb) (fun _ => va_up_self _ _ _)
  have H5 : Lab qcLK qcLL (va_up (va_up (va_up (va_up (va_up kd q1 3) p1 5) p2 5) p3 5) p4 8) (va_up (va_up (va_up (va_up an p1 4) p2 4) p3 4) p4 90) (aUp (aUp (aUp (aUp (aUp A 9 nq q1) 10 (3 * nq) p1) 10 (3 * nq + 1) p2) 10 (3 * nq + 1 + 1) p3) 11 nq p4) _ _ := Lab.new H4 h5 11 (show 0 ≤ nq from q0) (by decide) (fun b hb => va_up_ne _ _ hb) (fun _ => va_up_self _ _ _)
  have l1 : kLe kd an (va_up kd q1 3) an := kLe_new h1 (fun _ _ => rfl)
  have l2 : kLe kd an (va_up (va_up kd q1 3) p1 5) (va_up an p1 4) := kLe_tr l1 (kLe_new h2 (fun b hb => va_up_ne _ _ hb))
  have l3 : kLe kd an (va_up (va_up (va_up kd q1 3) p1 5) p2 5) (va_up (va_up an p1 4) p2 4) := kLe_tr l2 (kLe_new h3 (fun b hb => va_up_ne _ _ hb))
  have l4 : kLe kd an (va_up (va_up (va_up (va_up kd q1 3) p1 5) p2 5) p3 5) (va_up (va_up (va_up an p1 4) p2 4) p3 4) := kLe_tr l3 (kLe_new h4 (fun b hb => va_up_ne _ _ hb))
  have l5 : kLe kd an (va_up (va_up (va_up (va_up (va_up kd q1 3) p1 5) p2 5) p3 5) p4 8) (va_up (va_up (va_up (va_up an p1 4) p2 4) p3 4) p4 90) := kLe_tr l4 (kLe_new h5 (fun b hb => va_up_ne _ _ hb))
  have sm : ∀ i t, 0 ≤ t → t < qcLN nq nF i → (aUp (aUp (aUp (aUp (aUp A 9 nq q1) 10 (3 * nq) p1) 10 (3 * nq + 1) p2) 10 (3 * nq + 1 + 1) p3) 11 nq p4) i t = A i t := fun i t t0 t1 => by
    rw [aUp, if_neg (fun e => by obtain ⟨rfl, e⟩ := e; have : t < nq := t1; omega), aUp, if_neg (fun e => by obtain ⟨rfl, e⟩ := e; have : t < 3 * nq := t1; omega), aUp, if_neg (fun e => by obtain ⟨rfl, e⟩ := e; have : t < 3 * nq := t1; omega), aUp, if_neg (fun e => by obtain ⟨rfl, e⟩ := e; have : t < 3 * nq := t1; omega), aUp, if_neg (fun e => by obtain ⟨rfl, e⟩ := e; have : t < nq := t1; omega)]
  have s9 : (aUp (aUp (aUp (aUp (aUp A 9 nq q1) 10 (3 * nq) p1) 10 (3 * nq + 1) p2) 10 (3 * nq + 1 + 1) p3) 11 nq p4) 9 nq = q1 := by rw [aUp_i (by decide), aUp_i (by decide), aUp_i (by decide), aUp_i (by decide), aUp_s]
  have s11 : (aUp (aUp (aUp (aUp (aUp A 9 nq q1) 10 (3 * nq) p1) 10 (3 * nq + 1) p2) 10 (3 * nq + 1 + 1) p3) 11 nq p4) 11 nq = p4 := aUp_s
  have s10a : (aUp (aUp (aUp (aUp (aUp A 9 nq q1) 10 (3 * nq) p1) 10 (3 * nq + 1) p2) 10 (3 * nq + 1 + 1) p3) 11 nq p4) 10 (3 * nq) = p1 := by rw [aUp_i (by decide), aUp_j (by omega), aUp_j (by omega), aUp_s]
  have s10b : (aUp (aUp (aUp (aUp (aUp A 9 nq q1) 10 (3 * nq) p1) 10 (3 * nq + 1) p2) 10 (3 * nq + 1 + 1) p3) 11 nq p4) 10 (3 * nq + 1) = p2 := by rw [aUp_i (by decide), aUp_j (by omega), aUp_s]
  have s10c : (aUp (aUp (aUp (aUp (aUp A 9 nq q1) 10 (3 * nq) p1) 10 (3 * nq + 1) p2) 10 (3 * nq + 1 + 1) p3) 11 nq p4) 10 (3 * nq + 2) = p3 := by rw [aUp_i (by decide), show 3 * nq + 2 = 3 * nq + 1 + 1 by omega, aUp_s]
  have oai : ∀ i t, 0 ≤ t → t < qcLN nq nF i → ai' (A i t) = ai (A i t) := fun i t t0 t1 => eai _ (labFr HL l1 h2 t0 t1) (labFr HL l2 h3 t0 t1) (labFr HL l3 h4 t0 t1)
  have oar : ∀ i t, 0 ≤ t → t < qcLN nq nF i → ar' (A i t) = ar (A i t) := fun i t t0 t1 => ear _ (labFr HL l4 h5 t0 t1)
  have n1 : ∀ t, 0 ≤ t → t < nq → A 9 t ≠ q1 := fun t t0 t1 => HL.fresh h1 t0 t1
  have z00 : (aUp (aUp (aUp (aUp (aUp A 9 nq q1) 10 (3 * nq) p1) 10 (3 * nq + 1) p2) 10 (3 * nq + 1 + 1) p3) 11 nq p4) 0 0 = A 0 0 := sm 0 0 (by decide) (show (0 : Int) < 1 by decide)
  have z10 : (aUp (aUp (aUp (aUp (aUp A 9 nq q1) 10 (3 * nq) p1) 10 (3 * nq + 1) p2) 10 (3 * nq + 1 + 1) p3) 11 nq p4) 1 0 = A 1 0 := sm 1 0 (by decide) (show (0 : Int) < 1 by decide)
  have z20 : (aUp (aUp (aUp (aUp (aUp A 9 nq q1) 10 (3 * nq) p1) 10 (3 * nq + 1) p2) 10 (3 * nq + 1 + 1) p3) 11 nq p4) 2 0 = A 2 0 := sm 2 0 (by decide) (show (0 : Int) < 3 by decide)
  have z21 : (aUp (aUp (aUp (aUp (aUp A 9 nq q1) 10 (3 * nq) p1) 10 (3 * nq + 1) p2) 10 (3 * nq + 1 + 1) p3) 11 nq p4) 2 1 = A 2 1 := sm 2 1 (by decide) (show (1 : Int) < 3 by decide)
  have z22 : (aUp (aUp (aUp (aUp (aUp A 9 nq q1) 10 (3 * nq) p1) 10 (3 * nq + 1) p2) 10 (3 * nq + 1 + 1) p3) 11 nq p4) 2 2 = A 2 2 := sm 2 2 (by decide) (show (2 : Int) < 3 by decide)
  have z30 : (aUp (aUp (aUp (aUp (aUp A 9 nq q1) 10 (3 * nq) p1) 10 (3 * nq + 1) p2) 10 (3 * nq + 1 + 1) p3) 11 nq p4) 3 0 = A 3 0 := sm 3 0 (by decide) (show (0 : Int) < 1 by decide)
  have z40 : (aUp (aUp (aUp (aUp (aUp A 9 nq q1) 10 (3 * nq) p1) 10 (3 * nq + 1) p2) 10 (3 * nq + 1 + 1) p3) 11 nq p4) 4 0 = A 4 0 := sm 4 0 (by decide) (show (0 : Int) < 1 by decide)
  have z60 : (aUp (aUp (aUp (aUp (aUp A 9 nq q1) 10 (3 * nq) p1) 10 (3 * nq + 1) p2) 10 (3 * nq + 1 + 1) p3) 11 nq p4) 6 0 = A 6 0 := sm 6 0 (by decide) (show (0 : Int) < 1 by decide)
  have z70 : (aUp (aUp (aUp (aUp (aUp A 9 nq q1) 10 (3 * nq) p1) 10 (3 * nq + 1) p2) 10 (3 * nq + 1 + 1) p3) 11 nq p4) 7 0 = A 7 0 := sm 7 0 (by decide) (show (0 : Int) < 1 by decide)
  have z80 : (aUp (aUp (aUp (aUp (aUp A 9 nq q1) 10 (3 * nq) p1) 10 (3 * nq + 1) p2) 10 (3 * nq + 1 + 1) p3) 11 nq p4) 8 0 = A 8 0 := sm 8 0 (by decide) (show (0 : Int) < 1 by decide)
  refine ⟨(aUp (aUp (aUp (aUp (aUp A 9 nq q1) 10 (3 * nq) p1) 10 (3 * nq + 1) p2) 10 (3 * nq + 1 + 1) p3) 11 nq p4), _, sm, s9, ⟨fun i t t0 t1 => H5 i t t0 ?_, by omega, f0⟩, ?_, ?_, fun r r0 r1 => ?_, fun i i0 i1 => ⟨?_, ?_, ?_⟩, ?_, ?_, ?_⟩
  · match i with
    | 0 => exact t1
    | 1 => exact t1
    | 2 => exact t1
    | 3 => exact t1
    | 4 => exact t1
    | 5 => exact t1
    | 6 => exact t1
    | 7 => exact t1
    | 8 => exact t1
    | 9 => exact t1
    | 10 =>
      have t1' : t < 3 * (nq + 1) := t1
      show t < 3 * nq + 1 + 1 + 1
      omega
    | 11 => exact t1
    | 12 => exact t1
    | 13 => exact t1
    | i + 14 => exact absurd (show t < 0 from t1) (by omega)
  · unfold qcFl at Fl ⊢
    rw [z00, z10, z20, z21, z22, z30, z40, z60, z70, z80]; exact Fl
  · have eP : qcP (aUp (aUp (aUp (aUp (aUp A 9 nq q1) 10 (3 * nq) p1) 10 (3 * nq + 1) p2) 10 (3 * nq + 1 + 1) p3) 11 nq p4) = qcP A := funext fun t => by
      unfold qcP
      rw [aUp_i (by decide), aUp_i (by decide), aUp_i (by decide), aUp_i (by decide), aUp_i (by decide)]
    rw [z10, eP]; exact D.le l5
  · have k13 := (HL 13 r r0 (show r < nF from r1)).2.1
    exact (HF r r0 r1).tr (sm 12 r r0 r1) (sm 13 r r0 r1) rfl rfl rfl ((l5 (A 13 r) (by rw [k13.1]; exact k13.2)).2) (oai 13 r r0 r1)
  · rw [updI_e, updI_e]
    by_cases w : i = nq
    · rw [if_pos w, if_pos w, w]
      refine ⟨?_, ?_, ?_, ?_, fun t ht => absurd ht (by simp)⟩
      · rw [s9, f1, va_up_self]; exact ⟨rfl, hv⟩
      · rw [s9, s10a, s10b, s10c, s11, f2, f3, f4, f5, va_up_self, va_up_self, va_up_self, va_up_self]
        exact ⟨rfl, rfl, rfl, rfl⟩
      · rw [s9, f6, va_up_self]; decide
      · rw [s9, f6, va_up_self]; rfl
    · have i1' : i < nq := by omega
      rw [if_neg w, if_neg w]
      have Q := (HQ i i0 i1').1.tr (A' := (aUp (aUp (aUp (aUp (aUp A 9 nq q1) 10 (3 * nq) p1) 10 (3 * nq + 1) p2) 10 (3 * nq + 1 + 1) p3) 11 nq p4)) (ai' := ai') (sm 9 i i0 i1') (sm 11 i i0 i1') (sm 10 _ (by omega) (show _ < 3 * nq by omega)) (sm 10 _ (by omega) (show _ < 3 * nq by omega)) (sm 10 _ (by omega) (show _ < 3 * nq by omega)) (oai 10 _ (by omega) (show _ < 3 * nq by omega)) (oai 10 _ (by omega) (show _ < 3 * nq by omega)) (oai 10 _ (by omega) (show _ < 3 * nq by omega))
      have s9i : (aUp (aUp (aUp (aUp (aUp A 9 nq q1) 10 (3 * nq) p1) 10 (3 * nq + 1) p2) 10 (3 * nq + 1 + 1) p3) 11 nq p4) 9 i = A 9 i := sm 9 i i0 i1'
      unfold qcQ1 at Q ⊢
      rw [s9i] at Q ⊢
      rw [f1, f2, f3, f4, f5, f6, va_up_ne _ _ (n1 i i0 i1'), va_up_ne _ _ (n1 i i0 i1'), va_up_ne _ _ (n1 i i0 i1'), va_up_ne _ _ (n1 i i0 i1'), va_up_ne _ _ (n1 i i0 i1'), va_up_ne _ _ (n1 i i0 i1')]
      exact Q
  · rw [updI_e]
    by_cases w : i = nq
    · rw [if_pos w, w]
      refine ⟨?_, Nat.zero_le _, ?_, Or.inl rfl, fun t t0 t1 => absurd (show t < 0 from t1) (by omega)⟩
      · rw [s9, f7, va_up_self]; rfl
      · rw [s9, f8, va_up_self]
    · have i1' : i < nq := by omega
      rw [if_neg w]
      exact (HQ i i0 i1').2.1.tr (sm 9 i i0 i1') (sm 11 i i0 i1') (by rw [f7]; exact va_up_ne _ _ (n1 i i0 i1')) (by rw [f8]; exact va_up_ne _ _ (n1 i i0 i1')) (oar 11 i i0 i1') (fun r r0 r1 => ⟨sm 12 r r0 r1, rfl⟩) (Int.le_refl _)
  · rw [updI_e]
    by_cases w : i = nq
    · rw [if_pos w, w, s9, f9, va_up_self]
    · have i1' : i < nq := by omega
      have s9i : (aUp (aUp (aUp (aUp (aUp A 9 nq q1) 10 (3 * nq) p1) 10 (3 * nq + 1) p2) 10 (3 * nq + 1 + 1) p3) 11 nq p4) 9 i = A 9 i := sm 9 i i0 i1'
      rw [if_neg w, s9i, f9, va_up_ne _ _ (n1 i i0 i1')]
      exact (HQ i i0 i1').2.2
  · exact HX.tr z00 z20 z21 z22 (oai 2 0 (by decide) (show (0 : Int) < 3 by decide)) (oai 2 1 (by decide) (show (1 : Int) < 3 by decide)) (oai 2 2 (by decide) (show (2 : Int) < 3 by decide))
  · exact HC.tr z00 z30 z40 (oai 3 0 (by decide) (show (0 : Int) < 1 by decide)) (oai 4 0 (by decide) (show (0 : Int) < 1 by decide))
  · exact HS.tr z00 z60 z70 (fun t t0 t1 => sm 9 t t0 t1) (oar 6 0 (by decide) (show (0 : Int) < 1 by decide)) (oar 7 0 (by decide) (show (0 : Int) < 1 by decide)) (by omega)
theorem CQR_initQ {post : (Nat → Nat) → (Nat → Nat) → (Nat → Int → Int) → (Nat → Int → Option Nat) → (Nat → Int) → (Nat → Option Nat) → (Nat → Option Nat) → (Nat → Option Nat) → (Nat → Option Nat) → (Nat → Int) → Prop} {q1 : Nat} (bC : 4 ≤ MC) (bS : 102 ≤ MS) (hp : ∀ p1 p2 p3 p4, kd p1 = 0 → (va_up kd p1 5) p2 = 0 → (va_up (va_up kd p1 5) p2 5) p3 = 0 → (va_up (va_up (va_up kd p1 5) p2 5) p3 5) p4 = 0 → ∀ ai', (∀ b, b ≠ p1 → b ≠ p2 → b ≠ p3 → ai' b = ai b) → post (va_up (va_up (va_up (va_up kd p1 5) p2 5) p3 5) p4 8) (va_up (va_up (va_up (va_up an p1 4) p2 4) p3 4) p4 90) ai' (va_up ar p4 (fun _ => none)) (va_up mX62_answers q1 v) (va_up mX62_names q1 (some p1)) (va_up mX62_from q1 (some p2)) (va_up mX62_to q1 (some p3)) (va_up mX62_forms q1 (some p4)) (va_up mX62_known q1 (-1))) : wpQR_X62_init MC MS post kd an ai ar mX62_answers mX62_names mX62_from mX62_to mX62_forms mX62_known q1 v := by
  unfold wpQR_X62_init
  refine ⟨by omega, fun p1 h1 ai1 e1 ns e2 => ⟨by omega, fun p2 h2 ai2 e3 fs e4 => ⟨by omega, fun p3 h3 ai3 e5 ts e6 => ⟨by omega, fun p4 h4 ar1 e7 fm e8 kn e9 an9 e10 => ⟨by omega, by omega, ?_⟩⟩⟩⟩⟩
  rw [e2, e4, e6, e7, e8, e9, e10]
  refine hp p1 p2 p3 p4 h1 h2 h3 h4 ai3 (fun b b1 b2 b3 => ?_)
  rw [e5, va_up_ne _ _ b3, e3, va_up_ne _ _ b2, e1, va_up_ne _ _ b1]
theorem CQR_isInB {P0 P1 : Prop} (h1 : 0 ≤ v ∧ v < n → P1) (h0 : ¬ (0 ≤ v ∧ v < n) → P0) : wpQR_X40_isIn (fun r => (r = 0 → P0) ∧ (¬ r = 0 → P1)) v n := by
  unfold wpQR_X40_isIn
  exact ⟨fun z => ⟨fun _ => h0 (by omega), fun y => absurd rfl y⟩, fun z => ⟨fun y => ⟨fun _ => h0 (by omega), fun w => absurd rfl w⟩, fun y => ⟨fun w => absurd w (by decide), fun _ => h1 (by omega)⟩⟩⟩
/-- a question object gets its place among the questions -/
theorem qcR.slq {ar' : Nat → Int → Option Nat} {qc' : Nat → Int} (H : qcR kd an ai al ar mX40_kinds mX40_lefts mX40_rights mX40_axioms mX40_classFacts mX40_roleFacts mX40_facts mX40_draft mX40_questions mX40_questionCount mX40_forbidden mX40_given mX41_first mX41_second mX41_names mX41_from mX41_to mX41_n mX41_codes mX41_least mX41_hasLeast mX41_others mX41_otherCount mX41_named mX62_answers mX62_names mX62_from mX62_to mX62_n mX62_forms mX62_count mX62_large mX62_known mX85_first mX85_second mX85_codes A G nq nF FF qa ql qS qk kf lf rt na cf rf nf nQ sq sf ow) (hj : 0 ≤ j ∧ j < nq) (h6 : nQ < 6) (n1 : ∀ q, 0 ≤ q → q < nQ → ¬ sq q = j) (n2 : ∀ y, 0 ≤ y → y < na → 2 ≤ kf y → ¬ sf y = j) (ea : ar' = va_up ar (A 6 0) (updI (ar (A 6 0)) nQ (some (A 9 j)))) (eq : qc' = va_up mX40_questionCount (A 0 0) (nQ + 1)) : qcR kd an ai al (ar') mX40_kinds mX40_lefts mX40_rights mX40_axioms mX40_classFacts mX40_roleFacts mX40_facts mX40_draft mX40_questions (qc') mX40_forbidden mX40_given mX41_first mX41_second mX41_names mX41_from mX41_to mX41_n mX41_codes mX41_least mX41_hasLeast mX41_others mX41_otherCount mX41_named mX62_answers mX62_names mX62_from mX62_to mX62_n mX62_forms mX62_count mX62_large mX62_known mX85_first mX85_second mX85_codes A G nq nF FF qa ql qS qk kf lf rt na cf rf nf (nQ + 1) (updI sq nQ j) sf (updI ow j nQ) := by
  obtain ⟨⟨HL, q0, f0⟩, Fl, D, HF, HQ, HX, HC, HS⟩ := H
  have oar : ∀ i t, i ≠ 6 → 0 ≤ t → t < qcLN nq nF i → ar' (A i t) = ar (A i t) := fun i t h t0 t1 => by
    rw [ea]; exact va_up_ne _ _ (HL.ne ⟨t0, t1⟩ ⟨by decide, show (0 : Int) < 1 by decide⟩ (Or.inl h))
  refine ⟨⟨HL, q0, f0⟩, Fl, D, HF, fun i i0 i1 => ⟨(HQ i i0 i1).1, (HQ i i0 i1).2.1.tr rfl rfl rfl rfl (oar 11 i (by decide) i0 i1) (fun _ _ _ => ⟨rfl, rfl⟩) (Int.le_refl _), (HQ i i0 i1).2.2⟩, HX, HC, ⟨?_, ?_, ?_⟩, fun q b0 b1 => ?_, fun y b0 b1 => ⟨fun z => ?_, fun z => ?_⟩⟩
  · rw [eq, va_up_self]
  · have := HS.1.2; omega
  · omega
  · rw [ea, va_up_self]
    by_cases y : q = nQ
    · rw [y, updI_s, updI_s, updI_s]; exact ⟨rfl, hj, rfl⟩
    · obtain ⟨c1, c2, c3⟩ := HS.2.1 q b0 (by omega)
      rw [updI_n y, updI_n y, updI_n (n1 q b0 (by omega))]; exact ⟨c1, c2, c3⟩
  · rw [oar 7 0 (by decide) (by decide) (show (0 : Int) < 1 by decide)]; exact (HS.2.2 y b0 b1).1 z
  · obtain ⟨c1, c2, c3⟩ := (HS.2.2 y b0 b1).2 z
    rw [oar 7 0 (by decide) (by decide) (show (0 : Int) < 1 by decide), updI_n (n2 y b0 b1 z)]; exact ⟨c1, c2, c3⟩
theorem CQR_question {post : Int → (Nat → Nat) → (Nat → Nat) → (Nat → Int → Int) → (Nat → Int → Option Nat) → (Nat → Int) → (Nat → Int) → (Nat → Option Nat) → (Nat → Option Nat) → (Nat → Option Nat) → (Nat → Int) → (Nat → Option Nat) → (Nat → Int) → (Nat → Int) → (Nat → Int) → Prop} (Rm : qcRm kd an ai al ar mX40_kinds mX40_lefts mX40_rights mX40_axioms mX40_classFacts mX40_roleFacts mX40_facts mX40_draft mX40_questions mX40_questionCount mX40_forbidden mX40_given mX41_first mX41_second mX41_names mX41_from mX41_to mX41_n mX41_codes mX41_least mX41_hasLeast mX41_others mX41_otherCount mX41_named mX62_answers mX62_names mX62_from mX62_to mX62_n mX62_forms mX62_count mX62_large mX62_known mX85_first mX85_second mX85_codes x kf lf rt na cf rf nf nQ QA QL) (bC : 5 ≤ MC) (bS : 111 ≤ MS) (h1 : ¬ (0 ≤ v ∧ v < 3) → post (-1) kd an ai ar mX40_questionCount mX62_answers mX62_names mX62_from mX62_to mX62_n mX62_forms mX62_count mX62_large mX62_known) (h2 : (0 ≤ v ∧ v < 3) → nQ = 6 → post (-2) kd an ai ar mX40_questionCount mX62_answers mX62_names mX62_from mX62_to mX62_n mX62_forms mX62_count mX62_large mX62_known)
  (h3 : (0 ≤ v ∧ v < 3) → nQ < 6 → ∀ kd' an' ai' ar' qc' an9' ns' fs' ts' n9' fm' cn' lg' kn', qcRm (kd') (an') (ai') al (ar') mX40_kinds mX40_lefts mX40_rights mX40_axioms mX40_classFacts mX40_roleFacts mX40_facts mX40_draft mX40_questions (qc') mX40_forbidden mX40_given mX41_first mX41_second mX41_names mX41_from mX41_to mX41_n mX41_codes mX41_least mX41_hasLeast mX41_others mX41_otherCount mX41_named (an9') (ns') (fs') (ts') (n9') (fm') (cn') (lg') (kn') mX85_first mX85_second mX85_codes x kf lf rt na cf rf nf (nQ + 1) (updI QA nQ v) (updI QL nQ []) → post nQ kd' an' ai' ar' qc' an9' ns' fs' ts' n9' fm' cn' lg' kn') : wpQR_X40_question MC MS post kd an ai ar mX40_questions mX40_questionCount mX62_answers mX62_names mX62_from mX62_to mX62_n mX62_forms mX62_count mX62_large mX62_known x v := by
  obtain ⟨A, G, nq, nF, FF, qa, ql, qS, qk, sq, sf, ow, e0, H, K, hQ, hX⟩ := Rm
  subst e0
  have H0 := H
  obtain ⟨⟨HL, q0, f0⟩, Fl, D, HF, HQ, HX, HC, HS⟩ := H
  have enq := HS.1.1
  have hs6 := HL 6 0 (by decide) (show (0 : Int) < 1 by decide)
  have a6 : an (A 6 0) = 6 := hs6.2.2 (by decide)
  unfold wpQR_X40_question
  rw [enq]
  refine ⟨⟨by omega, by omega⟩, CQR_isInB (fun hv => ⟨fun z => ⟨by omega, by omega, h2 hv z⟩, fun z => ⟨by omega, fun q1 hq1 g1 eg1 g2 eg2 g3 eg3 g4 eg4 g5 eg5 g6 eg6 g7 eg7 g8 eg8 g9 eg9 => ⟨4, 102, ⟨by omega, by omega⟩, CQR_initQ (Nat.le_refl _) (Nat.le_refl _) (fun p1 p2 p3 p4 hp1 hp2 hp3 hp4 ai' eai le => ?_)⟩⟩⟩) (fun hv => ⟨by omega, by omega, h1 hv⟩)⟩
  have b6 := HS.1.2
  obtain ⟨A', G', sm, s9, R'⟩ := qcR.newq (v := v) (ai' := ai') (ar' := va_up ar p4 (fun _ => none)) H0 hq1 hp1 hp2 hp3 hp4 hv eai (fun b hb => va_up_ne _ _ hb) rfl rfl rfl rfl rfl rfl rfl rfl rfl
  have l5 := kLe_tr (kLe_new (an' := an) (K := 3) hq1 (fun _ _ => rfl)) le
  have e60 : A' 6 0 = A 6 0 := sm 6 0 (by decide) (show (0 : Int) < 1 by decide)
  have l6 := l5 (A 6 0) (by rw [hs6.2.1.1]; decide)
  refine kOn_of Fl.2.2.2.1 ⟨by rw [l6.1]; exact hs6.2.1.1, by rw [l6.2, a6]; omega, fun ar2 ea2 => ⟨by omega, fun u eu qc' eqc => ⟨by rw [eqc, va_up_self]; omega, by omega, by omega, ?_⟩⟩⟩
  have nw : ∀ t, 0 ≤ t → t < nq → ¬ t = nq := fun t _ h => by omega
  have R2 := qcR.slq (j := nq) (ar' := ar2) (qc' := qc') R' ⟨q0, by omega⟩ (by omega) (fun q b0 b1 => nw _ (HS.2.1 q b0 b1).2.1.1 (HS.2.1 q b0 b1).2.1.2) (fun y b0 b1 z => nw _ ((HS.2.2 y b0 b1).2 z).2.1.1 ((HS.2.2 y b0 b1).2 z).2.1.2) (by rw [e60, s9]; exact ea2) (by rw [sm 0 0 (by decide) (show (0 : Int) < 1 by decide), eqc, eu])
  have ev : qc' (A 0 0) - 1 = nQ := by rw [eqc, va_up_self, eu]; omega
  rw [ev, eg1, eg2, eg3, eg4, eg5, eg6, eg7, eg8, eg9, va_up_up, va_up_up, va_up_up, va_up_up, va_up_up, va_up_up]
  refine h3 hv (by omega) _ _ _ _ _ _ _ _ _ _ _ _ _ _ ⟨A', G', nq + 1, nF, FF, _, _, _, _, _, sf, _, sm 0 0 (by decide) (show (0 : Int) < 1 by decide), R2, fun i i0 i1 => ?_, fun q b0 b1 => ?_, fun y b0 b1 z => ?_⟩
  · rw [updI_e, updI_e, updI_e, updI_e]
    by_cases w : i = nq
    · rw [if_pos w, if_pos w, if_pos w, if_pos w]
      have := HX.2.1.1.1
      exact ⟨by omega, fun q => by omega⟩
    · rw [if_neg w, if_neg w, if_neg w, if_neg w]; exact K i i0 (by omega)
  · by_cases w : q = nQ
    · rw [w, updI_s, updI_s, updI_s, updI_s, updI_s]; exact ⟨rfl, rfl⟩
    · have c := (HS.2.1 q b0 (by omega)).2.1
      rw [updI_n w, updI_n w, updI_n w, updI_n (nw _ c.1 c.2), updI_n (nw _ c.1 c.2)]
      exact hQ q b0 (by omega)
  · have c := ((HS.2.2 y b0 b1).2 z).2.1
    rw [updI_n (nw _ c.1 c.2), updI_n (nw _ c.1 c.2)]
    exact hX y b0 b1 z
end
