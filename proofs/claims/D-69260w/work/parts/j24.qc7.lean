/-! QlRewrite (room QR): a form is kept -/
theorem gD_mem {α : Type} {d : α} : ∀ {l : List α} {t : Nat}, t < l.length → l.getD t d ∈ l
  | [], t, h => absurd h (Nat.not_lt_zero _)
  | x :: l, 0, _ => List.mem_cons_self
  | x :: l, t + 1, h => List.mem_cons_of_mem _ (gD_mem (l := l) (t := t) (Nat.lt_of_succ_lt_succ h))
theorem gD_ex {α : Type} {d x : α} : ∀ {l : List α}, x ∈ l → ∃ t, t < l.length ∧ l.getD t d = x
  | y :: l, h => by
    rcases List.mem_cons.1 h with e | h
    · exact ⟨0, Nat.succ_pos _, e.symm⟩
    · obtain ⟨t, ht, e⟩ := gD_ex h
      exact ⟨t + 1, Nat.succ_lt_succ ht, e⟩
theorem gD_ap {α : Type} {d : α} {r : List α} : ∀ {l : List α} {t : Nat}, t < l.length → (l ++ r).getD t d = l.getD t d
  | [], t, h => absurd h (Nat.not_lt_zero _)
  | x :: l, 0, _ => rfl
  | x :: l, t + 1, h => gD_ap (l := l) (t := t) (Nat.lt_of_succ_lt_succ h)
theorem gD_l {α : Type} {d x : α} : ∀ {l : List α}, (l ++ [x]).getD l.length d = x
  | [] => rfl
  | y :: l => gD_l (l := l)
theorem updI_ia {α : Type} {f : Int → α} {i : Int} : updI f i (f i) = f := funext fun j => by
  rw [updI_e]
  by_cases z : j = i
  · rw [if_pos z, z]
  · rw [if_neg z]
section
variable {kd : Nat → Nat} {an : Nat → Nat} {ai : Nat → Int → Int} {al : Nat → Int → Int} {ar : Nat → Int → Option Nat} {mX40_kinds : Nat → Option Nat} {mX40_lefts : Nat → Option Nat} {mX40_rights : Nat → Option Nat} {mX40_axioms : Nat → Int} {mX40_classFacts : Nat → Option Nat} {mX40_roleFacts : Nat → Option Nat} {mX40_facts : Nat → Int} {mX40_draft : Nat → Option Nat} {mX40_questions : Nat → Option Nat} {mX40_questionCount : Nat → Int} {mX40_forbidden : Nat → Option Nat} {mX40_given : Nat → Option Nat} {mX41_first : Nat → Int} {mX41_second : Nat → Int} {mX41_names : Nat → Option Nat} {mX41_from : Nat → Option Nat} {mX41_to : Nat → Option Nat} {mX41_n : Nat → Int} {mX41_codes : Nat → Option Nat} {mX41_least : Nat → Option Nat} {mX41_hasLeast : Nat → Int} {mX41_others : Nat → Option Nat} {mX41_otherCount : Nat → Int} {mX41_named : Nat → Option Nat} {mX62_answers : Nat → Int} {mX62_names : Nat → Option Nat} {mX62_from : Nat → Option Nat} {mX62_to : Nat → Option Nat} {mX62_n : Nat → Int} {mX62_forms : Nat → Option Nat} {mX62_count : Nat → Int} {mX62_large : Nat → Int} {mX62_known : Nat → Int} {mX85_first : Nat → Int} {mX85_second : Nat → Int} {mX85_codes : Nat → Option Nat} {A : Nat → Int → Nat} {G : Nat → Nat × Int} {nq nF na nf nQ : Int} {FF : Int → qFo} {qa qk kf lf rt cf rf sq sf ow : Int → Int} {ql : Int → List qA} {qS : Int → qSS} {j n k v oc i a b o f : Int} {l : List qA} {S : qSS} {MC MS : Nat}
theorem qcR.form {q p : Nat} {an1 : Nat → Nat} {ai5 : Nat → Int → Int} {ar' : Nat → Int → Option Nat} {qc' f1' f2' : Nat → Int} {cd' : Nat → Option Nat} {F : qFo} (H : qcR kd an ai al ar mX40_kinds mX40_lefts mX40_rights mX40_axioms mX40_classFacts mX40_roleFacts mX40_facts mX40_draft mX40_questions mX40_questionCount mX40_forbidden mX40_given mX41_first mX41_second mX41_names mX41_from mX41_to mX41_n mX41_codes mX41_least mX41_hasLeast mX41_others mX41_otherCount mX41_named mX62_answers mX62_names mX62_from mX62_to mX62_n mX62_forms mX62_count mX62_large mX62_known mX85_first mX85_second mX85_codes A G nq nF FF qa ql qS qk kf lf rt na cf rf nf nQ sq sf ow) (hj : 0 ≤ j ∧ j < nq) (hq : kd q = 0) (hp : (va_up kd q 5) p = 0) (ean : ∀ b, b ≠ q → an1 b = an b) (hF : (1 ≤ (an1 q : Int) ∧ (an1 q : Int) ≤ 4) ∧ aF (ai5 q) 0 (an1 q) = F.2.2 ∧ (∀ u ∈ F.2.2, qGc u) ∧ F.1 < 6 ∧ F.2.1 < 6) (eai : ∀ b, b ≠ q → ai5 b = ai b) (ef1 : f1' = va_up mX85_first p F.1) (ef2 : f2' = va_up mX85_second p F.2.1) (ecd : cd' = va_up mX85_codes p (some q)) (ear : ar' = va_up ar (A 11 j) (updI (ar (A 11 j)) ((qS j).1.length : Int) (some p))) (eqc : qc' = va_up mX62_count (A 9 j) (((qS j).1.length : Int) + 1)) (h90 : ((qS j).1.length : Int) < 90) (h0 : (qS j).2 = 0) :
  ∃ A' G', qcM A A' nq nF (nF + 1) FF (updI FF nF F) ∧ qcR (va_up (va_up kd q 5) p 4) an1 ai5 al (ar') mX40_kinds mX40_lefts mX40_rights mX40_axioms mX40_classFacts mX40_roleFacts mX40_facts mX40_draft mX40_questions mX40_questionCount mX40_forbidden mX40_given mX41_first mX41_second mX41_names mX41_from mX41_to mX41_n mX41_codes mX41_least mX41_hasLeast mX41_others mX41_otherCount mX41_named mX62_answers mX62_names mX62_from mX62_to mX62_n mX62_forms (qc') mX62_large mX62_known (f1') (f2') (cd') A' G' nq (nF + 1) (updI FF nF F) qa ql (updI qS j ((qS j).1 ++ [F], (qS j).2)) qk kf lf rt na cf rf nf nQ sq sf ow := by
  obtain ⟨⟨HL, q0, f0⟩, Fl, D, HF, HQ, HX, HC, HS⟩ := H
  have H1 : Lab qcLK qcLL (va_up kd q 5) an1 (aUp A 13 nF q) (gUp G q 13 nF) (nUp (qcLN nq nF) 13) := Lab.new HL hq 13 f0 (by decide) ean (fun w => absurd rfl w)
  have H2 : Lab qcLK qcLL (va_up (va_up kd q 5) p 4) an1 (aUp (aUp A 13 nF q) 12 nF p) (gUp (gUp G q 13 nF) p 12 nF) (nUp (nUp (qcLN nq nF) 13) 12) := Lab.new H1 hp 12 (show 0 ≤ nF from f0) (by decide) (fun _ _ => rfl) (fun w => absurd rfl w)
  have le1 : kLe kd an (va_up kd q 5) an1 := kLe_new hq ean
  have le2 : kLe (va_up kd q 5) an1 (va_up (va_up kd q 5) p 4) an1 := kLe_new hp (fun _ _ => rfl)
  have le := kLe_tr le1 le2
  have sm : ∀ i j, 0 ≤ j → j < qcLN nq nF i → aUp (aUp A 13 nF q) 12 nF p i j = A i j := fun i j j0 j1 => by
    rw [aUp, if_neg (fun e => by obtain ⟨rfl, e⟩ := e; have : j < nF := j1; omega), aUp, if_neg (fun e => by obtain ⟨rfl, e⟩ := e; have : j < nF := j1; omega)]
  have nq_ : ∀ i j, 0 ≤ j → j < qcLN nq nF i → A i j ≠ q := fun i j j0 j1 => HL.fresh hq j0 j1
  have np_ : ∀ i j, 0 ≤ j → j < qcLN nq nF i → A i j ≠ p := fun i j j0 j1 => by
    have l := le1 (A i j) (by rw [(HL i j j0 j1).2.1.1]; exact (HL i j j0 j1).2.1.2)
    exact fun e => by
      rw [e, hp] at l
      have := (HL i j j0 j1).2.1
      rw [e, ← l.1] at this
      exact this.2 this.1.symm
  have n12 : aUp (aUp A 13 nF q) 12 nF p 12 nF = p := aUp_s
  have n13 : aUp (aUp A 13 nF q) 12 nF p 13 nF = q := by rw [aUp_i (by decide), aUp_s]
  have oai : ∀ i j, 0 ≤ j → j < qcLN nq nF i → ai5 (A i j) = ai (A i j) := fun i j j0 j1 => eai _ (nq_ i j j0 j1)
  have oar : ∀ i j', 0 ≤ j' → j' < qcLN nq nF i → (i ≠ 11 ∨ j' ≠ j) → ar' (A i j') = ar (A i j') := fun i j' j0 j1 ne => by
    rw [ear]; exact va_up_ne _ _ (HL.ne ⟨j0, j1⟩ ⟨hj.1, show j < nq from hj.2⟩ ne)
  have s9 : ∀ j', 0 ≤ j' → j' < nq → aUp (aUp A 13 nF q) 12 nF p 9 j' = A 9 j' := fun j' a b => sm 9 j' a b
  have s11 : ∀ j', 0 ≤ j' → j' < nq → aUp (aUp A 13 nF q) 12 nF p 11 j' = A 11 j' := fun j' a b => sm 11 j' a b
  have s10 : ∀ j', 0 ≤ j' → j' < 3 * nq → aUp (aUp A 13 nF q) 12 nF p 10 j' = A 10 j' := fun j' a b => sm 10 j' a b
  have z00 : aUp (aUp A 13 nF q) 12 nF p 0 0 = A 0 0 := sm 0 0 (by decide) (show (0 : Int) < 1 by decide)
  have z10 : aUp (aUp A 13 nF q) 12 nF p 1 0 = A 1 0 := sm 1 0 (by decide) (show (0 : Int) < 1 by decide)
  have z20 : aUp (aUp A 13 nF q) 12 nF p 2 0 = A 2 0 := sm 2 0 (by decide) (show (0 : Int) < 3 by decide)
  have z21 : aUp (aUp A 13 nF q) 12 nF p 2 1 = A 2 1 := sm 2 1 (by decide) (show (1 : Int) < 3 by decide)
  have z22 : aUp (aUp A 13 nF q) 12 nF p 2 2 = A 2 2 := sm 2 2 (by decide) (show (2 : Int) < 3 by decide)
  have z30 : aUp (aUp A 13 nF q) 12 nF p 3 0 = A 3 0 := sm 3 0 (by decide) (show (0 : Int) < 1 by decide)
  have z40 : aUp (aUp A 13 nF q) 12 nF p 4 0 = A 4 0 := sm 4 0 (by decide) (show (0 : Int) < 1 by decide)
  have z60 : aUp (aUp A 13 nF q) 12 nF p 6 0 = A 6 0 := sm 6 0 (by decide) (show (0 : Int) < 1 by decide)
  have z70 : aUp (aUp A 13 nF q) 12 nF p 7 0 = A 7 0 := sm 7 0 (by decide) (show (0 : Int) < 1 by decide)
  have z80 : aUp (aUp A 13 nF q) 12 nF p 8 0 = A 8 0 := sm 8 0 (by decide) (show (0 : Int) < 1 by decide)
  refine ⟨aUp (aUp A 13 nF q) 12 nF p, gUp (gUp G q 13 nF) p 12 nF, ⟨by omega, sm, fun r r0 r1 => updI_n (by omega)⟩, ⟨fun i j' j0 j1 => H2 i j' j0 ?_, q0, by omega⟩, ?_, ?_, fun r r0 r1 => ?_, fun i i0 i1 => ⟨?_, ?_, ?_⟩, ?_, ?_, ?_⟩
  · match i with
    | 0 => exact j1
    | 1 => exact j1
    | 2 => exact j1
    | 3 => exact j1
    | 4 => exact j1
    | 5 => exact j1
    | 6 => exact j1
    | 7 => exact j1
    | 8 => exact j1
    | 9 => exact j1
    | 10 => exact j1
    | 11 => exact j1
    | 12 => exact j1
    | 13 => exact j1
    | i + 14 => exact absurd (show j' < 0 from j1) (by omega)
  · unfold qcFl at Fl ⊢
    rw [z00, z10, z20, z21, z22, z30, z40, z60, z70, z80]; exact Fl
  · have eP : qcP (aUp (aUp A 13 nF q) 12 nF p) = qcP A := funext fun t => by
      unfold qcP
      rw [aUp_i (by decide), aUp_i (by decide)]
    rw [z10, eP]; exact D.le le
  · by_cases z : r = nF
    · rw [z, updI_s]
      refine ⟨?_, ?_, ?_, hF.2.2⟩
      · rw [n12, n13, ef1, ef2, ecd, va_up_self, va_up_self, va_up_self]; exact ⟨rfl, rfl, rfl⟩
      · rw [n13]; exact hF.1
      · rw [n13]; exact hF.2.1
    · rw [updI_n z]
      have r1' : r < nF := by omega
      refine (HF r r0 r1').tr (sm 12 r r0 r1') (sm 13 r r0 r1') ?_ ?_ ?_ (ean _ (nq_ 13 r r0 r1')) (oai 13 r r0 r1')
      · rw [ef1]; exact va_up_ne _ _ (np_ 12 r r0 r1')
      · rw [ef2]; exact va_up_ne _ _ (np_ 12 r r0 r1')
      · rw [ecd]; exact va_up_ne _ _ (np_ 12 r r0 r1')
  · exact (HQ i i0 i1).1.tr (s9 i i0 i1) (s11 i i0 i1) (s10 _ (by omega) (by omega)) (s10 _ (by omega) (by omega)) (s10 _ (by omega) (by omega)) (oai 10 _ (by omega) (show _ < 3 * nq by omega)) (oai 10 _ (by omega) (show _ < 3 * nq by omega)) (oai 10 _ (by omega) (show _ < 3 * nq by omega))
  · obtain ⟨h1, h2, h3, h4, h5⟩ := (HQ i i0 i1).2.1
    by_cases z : i = j
    · rw [z] at h1 h2 h3 h4 h5 ⊢
      rw [updI_s]
      have ln : (((qS j).1 ++ [F]).length : Int) = (qS j).1.length + 1 := by rw [List.length_append]; rfl
      refine ⟨?_, ?_, by rw [s9 j hj.1 hj.2]; exact h3, Or.inl h0, fun t t0 t1 => ?_⟩
      · rw [s9 j hj.1 hj.2, eqc, va_up_self]; exact ln.symm
      · have : (((qS j).1 ++ [F]).length : Int) ≤ 90 := by omega
        show ((qS j).1 ++ [F]).length ≤ 90
        omega
      · have t1' : t < (qS j).1.length + 1 := by rw [← ln]; exact t1
        rw [s11 j hj.1 hj.2, ear, va_up_self]
        by_cases y : t = (qS j).1.length
        · refine ⟨nF, by omega, by rw [y, updI_s, n12], ?_⟩
          rw [updI_s, y]
          show F = ((qS j).1 ++ [F]).getD ((qS j).1.length : Int).toNat (0, 0, [])
          rw [show ((qS j).1.length : Int).toNat = (qS j).1.length by omega]
          exact gD_l.symm
        · obtain ⟨r, hr, e, g⟩ := h5 t t0 (by omega)
          refine ⟨r, by omega, by rw [updI_n y, sm 12 r hr.1 hr.2]; exact e, ?_⟩
          rw [updI_n (by omega), g]
          show _ = ((qS j).1 ++ [F]).getD t.toNat (0, 0, [])
          rw [gD_ap (by omega)]
    · rw [updI_n z]
      refine (HQ i i0 i1).2.1.tr (s9 i i0 i1) (s11 i i0 i1) ?_ rfl (oar 11 i i0 i1 (Or.inr z)) (fun r r0 r1 => ⟨sm 12 r r0 r1, updI_n (by omega)⟩) (by omega)
      rw [eqc]; exact va_up_ne _ _ (HL.ne ⟨i0, show i < nq from i1⟩ ⟨hj.1, show j < nq from hj.2⟩ (Or.inr z))
  · rw [s9 i i0 i1]; exact (HQ i i0 i1).2.2
  · exact HX.tr z00 z20 z21 z22 (oai 2 0 (by decide) (show (0 : Int) < 3 by decide)) (oai 2 1 (by decide) (show (1 : Int) < 3 by decide)) (oai 2 2 (by decide) (show (2 : Int) < 3 by decide))
  · exact HC.tr z00 z30 z40 (oai 3 0 (by decide) (show (0 : Int) < 1 by decide)) (oai 4 0 (by decide) (show (0 : Int) < 1 by decide))
  · exact HS.tr z00 z60 z70 s9 (oar 6 0 (by decide) (show (0 : Int) < 1 by decide) (Or.inl (by decide))) (oar 7 0 (by decide) (show (0 : Int) < 1 by decide) (Or.inl (by decide))) (Int.le_refl _)
theorem CQR_keep {post : (Nat → Nat) → (Nat → Nat) → (Nat → Int → Int) → (Nat → Int → Option Nat) → (Nat → Int) → (Nat → Int) → (Nat → Int) → (Nat → Int) → (Nat → Int) → (Nat → Int) → (Nat → Int) → (Nat → Int) → (Nat → Int) → (Nat → Option Nat) → Prop} (H : qcR kd an ai al ar mX40_kinds mX40_lefts mX40_rights mX40_axioms mX40_classFacts mX40_roleFacts mX40_facts mX40_draft mX40_questions mX40_questionCount mX40_forbidden mX40_given mX41_first mX41_second mX41_names mX41_from mX41_to mX41_n mX41_codes mX41_least mX41_hasLeast mX41_others mX41_otherCount mX41_named mX62_answers mX62_names mX62_from mX62_to mX62_n mX62_forms mX62_count mX62_large mX62_known mX85_first mX85_second mX85_codes A G nq nF FF qa ql qS qk kf lf rt na cf rf nf nQ sq sf ow) (hj : 0 ≤ j ∧ j < nq) (n4 : 1 ≤ mX41_n (A 1 0) ∧ mX41_n (A 1 0) ≤ 4) (hg : ∀ k, 0 ≤ k → k < mX41_n (A 1 0) → qGa (qAr (ai (qcP A 0)) (ai (qcP A 1)) (ai (qcP A 2)) k)) (hl : aF (qAr (ai (qcP A 0)) (ai (qcP A 1)) (ai (qcP A 2))) 0 (mX41_n (A 1 0)).toNat = l) (bC : 2 * ((qFin (mX41_first (A 1 0)) (mX41_second (A 1 0)) l (qS j)).1.length - (qS j).1.length) ≤ MC) (bS : 7 * ((qFin (mX41_first (A 1 0)) (mX41_second (A 1 0)) l (qS j)).1.length - (qS j).1.length) ≤ MS)
  (hp : ∀ kd' an' ai' ar' fi' se' n' hl' oc' qc' qlg' f1' f2' cd' A' G' nF' FF', qcM A A' nq nF nF' FF FF' → qcR (kd') (an') (ai') al (ar') mX40_kinds mX40_lefts mX40_rights mX40_axioms mX40_classFacts mX40_roleFacts mX40_facts mX40_draft mX40_questions mX40_questionCount mX40_forbidden mX40_given (fi') (se') mX41_names mX41_from mX41_to (n') mX41_codes mX41_least (hl') mX41_others (oc') mX41_named mX62_answers mX62_names mX62_from mX62_to mX62_n mX62_forms (qc') (qlg') mX62_known (f1') (f2') (cd') A' G' nq nF' FF' qa ql (updI qS j (qFin (mX41_first (A 1 0)) (mX41_second (A 1 0)) l (qS j))) qk kf lf rt na cf rf nf nQ sq sf ow → post kd' an' ai' ar' fi' se' n' hl' oc' qc' qlg' f1' f2' cd') : wpQR_X40_keep MC MS post kd an ai ar mX40_draft mX41_first mX41_second mX41_names mX41_from mX41_to mX41_n mX41_codes mX41_least mX41_hasLeast mX41_others mX41_otherCount mX41_named mX62_forms mX62_count mX62_large mX85_first mX85_second mX85_codes (A 0 0) (some (A 9 j)) := by
  have H0 := H
  obtain ⟨⟨HL, q0, f0⟩, Fl, D, HF, HQ, HX, HC, HS⟩ := H
  have eD : mX40_draft (A 0 0) = some (A 1 0) := Fl.2.2.1
  have kx := D.1
  have k9 : kd (A 9 j) = 3 := (HL 9 j hj.1 (show j < nq from hj.2)).2.1.1
  have k11 : kd (A 11 j) = 8 := (HL 11 j hj.1 (show j < nq from hj.2)).2.1.1
  have a11 : an (A 11 j) = 90 := (HL 11 j hj.1 (show j < nq from hj.2)).2.2 (by decide)
  have eL : mX41_least (A 1 0) = some (qcP A 5) := D.2.1.2.2.2.2.2.1
  have k5 : kd (qcP A 5) = 5 := (D.2.2.1 5 (by decide)).1
  have a5 : an (qcP A 5) = 4 := (D.2.2.1 5 (by decide)).2
  obtain ⟨Q1, Q2, _⟩ := HQ j hj.1 hj.2
  have eFm : mX62_forms (A 9 j) = some (A 11 j) := Q1.2.1.2.2.2
  obtain ⟨s1, s2, s3, s4, s5⟩ := Q2
  unfold wpQR_X40_keep
  refine kOn_of eD ⟨kx, ⟨by omega, by omega⟩, CQR_settle D n4 hg hl (fun ai3 fi se n3 hl3 oc3 G3 hn3 heq hgc ef es => kOn_some ⟨k9, fun lg elg => ?_⟩)⟩
  have R3 := qcR.dr (mX41_first' := fi) (mX41_second' := se) (mX41_n' := n3) (mX41_hasLeast' := hl3) (mX41_otherCount' := oc3) H0 G3
  obtain ⟨_, _, _, HF3, _, _, _, _⟩ := R3
  have fin : ∀ x2 : Int, (¬ x2 = 0 ↔ ¬ (qS j).2 = 0 ∨ ((qOn (mX41_first (A 1 0)), qTw (mX41_first (A 1 0)) (mX41_second (A 1 0)), qFN (mX41_first (A 1 0)) (mX41_second (A 1 0)) l) : qFo) ∈ (qS j).1) → wQR_X40_keep_70 MC MS post (A 0 0) (some (A 9 j)) x2 kd an ai3 ar mX40_draft fi se n3 mX41_least hl3 oc3 mX62_forms mX62_count mX62_large mX85_first mX85_second mX85_codes 0 0 := fun x2 hx => by
    unfold wQR_X40_keep_70
    refine ⟨fun z => ?_, fun z => ⟨by omega, by omega, ?_⟩⟩
    · have no : ¬ (¬ (qS j).2 = 0 ∨ ((qOn (mX41_first (A 1 0)), qTw (mX41_first (A 1 0)) (mX41_second (A 1 0)), qFN (mX41_first (A 1 0)) (mX41_second (A 1 0)) l) : qFo) ∈ (qS j).1) := fun w => (hx.2 w) z
      have l0 : (qS j).2 = 0 := Classical.byContradiction fun w => no (Or.inl w)
      have nm : ¬ ((qOn (mX41_first (A 1 0)), qTw (mX41_first (A 1 0)) (mX41_second (A 1 0)), qFN (mX41_first (A 1 0)) (mX41_second (A 1 0)) l) : qFo) ∈ (qS j).1 := fun w => no (Or.inr w)
      refine kOn_some ⟨k9, fun c90 qlg' eql => ⟨by omega, by omega, ?_⟩, fun c90 => kOn_of eD ⟨kx, fun m em => ?_⟩⟩
      · rw [s1] at c90
        have e : (qFin (mX41_first (A 1 0)) (mX41_second (A 1 0)) l (qS j)) = ((qS j).1, 1) := by
          unfold qFin qKp
          rw [pif_f nm, if_pos (by omega)]
        refine hp _ _ _ _ _ _ _ _ _ _ _ _ _ _ A G nF FF qcM.refl ?_
        rw [e]
        exact qcR.set (S := ((qS j).1, 1)) (qcR.dr H0 G3) hj (by rw [eql, va_up_self]) (fun i i0 i1 ne => by rw [eql]; exact va_up_ne _ _ (HL.ne ⟨i0, show i < nq from i1⟩ ⟨hj.1, show j < nq from hj.2⟩ (Or.inr ne))) rfl (Or.inr ⟨rfl, by show (qS j).1.length = 90; omega⟩)
      · rw [s1] at c90
        have e : (qFin (mX41_first (A 1 0)) (mX41_second (A 1 0)) l (qS j)) = ((qS j).1 ++ [(qOn (mX41_first (A 1 0)), qTw (mX41_first (A 1 0)) (mX41_second (A 1 0)), qFN (mX41_first (A 1 0)) (mX41_second (A 1 0)) l)], (qS j).2) := by
          unfold qFin qKp
          rw [pif_f nm, if_neg (by omega)]
        have el : (qFin (mX41_first (A 1 0)) (mX41_second (A 1 0)) l (qS j)).1.length = (qS j).1.length + 1 := by rw [e]; simp
        have cb : componentBytes .int = 4 := rfl
        have em' : m.toNat = (n3 (A 1 0)).toNat := by rw [em]
        rw [el] at bC bS
        refine ⟨⟨by omega, by rw [cb]; omega⟩, ⟨by omega, by omega⟩, fun q hq an1 ean ks1 eks ai4 eai => ?_⟩
        have ne5 : qcP A 5 ≠ q := kLe.ne (an := an) k5 (by decide) hq
        have neA : ∀ i t, 0 ≤ t → t < qcLN nq nF i → A i t ≠ q := fun i t t0 t1 => HL.fresh hq t0 t1
        have anq : an1 q = m.toNat := by rw [ean, va_up_self]
        refine wl2 (fun fu k ai' => wQR_X40_keep_103 MC MS _ (A 0 0) (some q) (va_up kd q 5) an1 mX40_draft n3 mX41_least fu k ai') (fun k ai' => (0 ≤ k ∧ k ≤ n3 (A 1 0)) ∧ (∀ b, b ≠ q → ai' b = ai3 b) ∧ ∀ i, 0 ≤ i → i < k → ai' q i = ai3 (qcP A 5) i) (fun k _ => (n3 (A 1 0) - k).toNat) ?_ 0 ai4 ⟨by omega, fun b hb => by rw [eai]; exact va_up_ne _ _ hb, fun i a b => by omega⟩
        rintro k ai5 ⟨hk, ho, hc⟩ f ih
        rw [wQR_X40_keep_103]
        have nx : A 1 0 ≠ q := neA 1 0 (by decide) (show (0 : Int) < 1 by decide)
        refine kOn_of eD ⟨by rw [va_up_ne _ _ nx]; exact kx, fun z => ?_, fun z => kOn_of eL ⟨by rw [va_up_ne _ _ ne5]; exact k5, by rw [ean, va_up_ne _ _ ne5, a5]; omega, fun w ew => kOn_some ⟨va_up_self _ _ _, by rw [anq]; omega, fun ai6 e6 => ⟨by omega, fun _ e => ?_⟩⟩⟩⟩
        · refine kOn_some ⟨by rw [va_up_ne _ _ (neA 9 j hj.1 hj.2)]; exact k9, by omega, fun p hp0 g1 eg1 g2 eg2 g3 eg3 => ?_⟩
          have np : ∀ i t, 0 ≤ t → t < qcLN nq nF i → A i t ≠ p := fun i t t0 t1 w => by
            rw [← w, va_up_ne _ _ (neA i t t0 t1)] at hp0
            exact (HL i t t0 t1).2.1.2 ((HL i t t0 t1).2.1.1.symm.trans hp0)
          refine kOn_of eD ⟨by rw [va_up_ne _ _ (np 1 0 (by decide) (show (0 : Int) < 1 by decide)), va_up_ne _ _ nx]; exact kx, ⟨by omega, by omega⟩, ?_⟩
          unfold wpQR_X85_init
          intro h1 eh1 h2 eh2 h3 eh3
          refine kOn_of eFm ⟨by rw [va_up_ne _ _ (np 11 j hj.1 hj.2), va_up_ne _ _ (neA 11 j hj.1 hj.2)]; exact k11, by rw [ean, va_up_ne _ _ (neA 11 j hj.1 hj.2), a11, s1]; omega, fun ar' ear => ⟨by rw [s1]; omega, fun v ev qc' eqc => ⟨by omega, by omega, ?_⟩⟩⟩
          have hF : (1 ≤ (an1 q : Int) ∧ (an1 q : Int) ≤ 4) ∧ aF (ai5 q) 0 (an1 q) = qFN (mX41_first (A 1 0)) (mX41_second (A 1 0)) l ∧ (∀ u ∈ qFN (mX41_first (A 1 0)) (mX41_second (A 1 0)) l, qGc u) ∧ qOn (mX41_first (A 1 0)) < 6 ∧ qTw (mX41_first (A 1 0)) (mX41_second (A 1 0)) < 6 := by
            refine ⟨by rw [anq]; omega, ?_, hgc, qOn_b, qTw_b⟩
            rw [anq, em', ← heq]
            exact aF_c _ _ (fun i i0 i1 => hc i i0 (by omega))
          obtain ⟨A', G', M, R'⟩ := qcR.form (an1 := an1) (ai5 := ai5) (ar' := ar') (qc' := qc') (f1' := h1) (f2' := h2) (cd' := h3) (F := (qOn (mX41_first (A 1 0)), qTw (mX41_first (A 1 0)) (mX41_second (A 1 0)), qFN (mX41_first (A 1 0)) (mX41_second (A 1 0)) l)) (qcR.dr (mX41_first' := fi) (mX41_second' := se) (mX41_n' := n3) (mX41_hasLeast' := hl3) (mX41_otherCount' := oc3) H0 G3) hj hq hp0 (fun b hb => by rw [ean]; exact va_up_ne _ _ hb) hF ho (by rw [eh1, eg1, va_up_up, ef]) (by rw [eh2, eg2, va_up_up, es]) (by rw [eh3, eg3, va_up_up]) (by rw [ear, s1]) (by rw [eqc, ev, s1]) (by omega) l0
          rw [← e] at R'
          exact hp _ _ _ _ _ _ _ _ _ _ _ _ _ _ A' G' _ _ M R'
        · rw [e]
          refine ih _ _ ⟨by omega, fun b hb => by rw [e6, va_up_ne _ _ hb]; exact ho b hb, fun i i0 i1 => ?_⟩ (by omega)
          rw [e6, va_up_self, updI_e]
          by_cases y : i = k
          · rw [if_pos y, ew, ho _ ne5, y]
          · rw [if_neg y]; exact hc i i0 (by omega)
    · have e : (qFin (mX41_first (A 1 0)) (mX41_second (A 1 0)) l (qS j)) = qS j := by
        unfold qFin qKp
        by_cases y : ((qOn (mX41_first (A 1 0)), qTw (mX41_first (A 1 0)) (mX41_second (A 1 0)), qFN (mX41_first (A 1 0)) (mX41_second (A 1 0)) l) : qFo) ∈ (qS j).1
        · rw [pif_t y]
        · have nz := (hx.1 z).resolve_right y
          have s := s4.resolve_left nz
          rw [pif_f y, if_pos s.2]
          exact Prod.ext rfl s.1.symm
      refine hp _ _ _ _ _ _ _ _ _ _ _ _ _ _ A G nF FF qcM.refl ?_
      rw [e, updI_ia]
      exact qcR.dr H0 G3
  refine wl2 (fun fu c k => wQR_X40_keep_14 MC MS _ (A 0 0) (some (A 9 j)) kd an ai3 ar mX40_draft fi se n3 mX41_least mX62_forms mX62_count mX85_first mX85_second mX85_codes 0 0 fu c k) (fun c k => (0 ≤ k ∧ k ≤ ((qS j).1.length : Int)) ∧ (¬ c = 0 ↔ ¬ (qS j).2 = 0 ∨ ∃ i : Int, (0 ≤ i ∧ i < k) ∧ (qS j).1.getD i.toNat (0, 0, []) = ((qOn (mX41_first (A 1 0)), qTw (mX41_first (A 1 0)) (mX41_second (A 1 0)), qFN (mX41_first (A 1 0)) (mX41_second (A 1 0)) l) : qFo))) (fun _ k => (((qS j).1.length : Int) - k).toNat) ?_ lg 0 ⟨by omega, by rw [elg, s3]; exact ⟨Or.inl, fun h => h.elim id (fun ⟨i, hi, _⟩ => by omega)⟩⟩
  rintro c k ⟨hk, hc⟩ f ih
  have mem_ : (∃ i : Int, (0 ≤ i ∧ i < k) ∧ (qS j).1.getD i.toNat (0, 0, []) = ((qOn (mX41_first (A 1 0)), qTw (mX41_first (A 1 0)) (mX41_second (A 1 0)), qFN (mX41_first (A 1 0)) (mX41_second (A 1 0)) l) : qFo)) → ((qOn (mX41_first (A 1 0)), qTw (mX41_first (A 1 0)) (mX41_second (A 1 0)), qFN (mX41_first (A 1 0)) (mX41_second (A 1 0)) l) : qFo) ∈ (qS j).1 := fun ⟨i, hi, e⟩ => by
    have lt : i.toNat < (qS j).1.length := by omega
    rw [← e]
    exact gD_mem lt
  rw [wQR_X40_keep_14]
  refine kOn_some ⟨k9, fun z => fin c (hc.trans (or_congr Iff.rfl ⟨mem_, fun h => ?_⟩)), fun z => ⟨fun c0 => kOn_of eFm ⟨k11, by rw [a11]; rw [s1] at z; omega, fun r er => ?_⟩, fun c1 => fin c ⟨fun w => (hc.1 w).imp id mem_, fun _ => c1⟩⟩⟩
  · obtain ⟨t, ht, e⟩ := gD_ex (d := (0, 0, [])) h
    rw [s1] at z
    exact ⟨(t : Int), by omega, by rw [show ((t : Int)).toNat = t by omega]; exact e⟩
  · rw [s1] at z
    obtain ⟨t, ht, et, ft⟩ := s5 k hk.1 (by omega)
    obtain ⟨⟨p1, p2, p3⟩, p4, p5, p6⟩ := HF3 t ht.1 ht.2
    rw [et] at er
    have kc : kd (A 13 t) = 5 := (HL 13 t ht.1 (show t < nF from ht.2)).2.1.1
    have eqF : ((mX85_first (A 12 t), mX85_second (A 12 t), aF (ai3 (A 13 t)) 0 (an (A 13 t))) : qFo) = FF t := by rw [p1, p2, p5]
    have eqG : ((fi (A 1 0), se (A 1 0), aF (ai3 (qcP A 5)) 0 (n3 (A 1 0)).toNat) : qFo) = (qOn (mX41_first (A 1 0)), qTw (mX41_first (A 1 0)) (mX41_second (A 1 0)), qFN (mX41_first (A 1 0)) (mX41_second (A 1 0)) l) := by rw [ef, es, heq]
    have nxt : ∀ r' : Int, (¬ r' = 0 ↔ FF t = ((qOn (mX41_first (A 1 0)), qTw (mX41_first (A 1 0)) (mX41_second (A 1 0)), qFN (mX41_first (A 1 0)) (mX41_second (A 1 0)) l) : qFo)) → (0 ≤ k + 1 ∧ k + 1 ≤ ((qS j).1.length : Int)) ∧ (¬ r' = 0 ↔ ¬ (qS j).2 = 0 ∨ ∃ i : Int, (0 ≤ i ∧ i < k + 1) ∧ (qS j).1.getD i.toNat (0, 0, []) = ((qOn (mX41_first (A 1 0)), qTw (mX41_first (A 1 0)) (mX41_second (A 1 0)), qFN (mX41_first (A 1 0)) (mX41_second (A 1 0)) l) : qFo)) := fun r' hr => by
      have nno : ¬ (¬ (qS j).2 = 0 ∨ ∃ i : Int, (0 ≤ i ∧ i < k) ∧ (qS j).1.getD i.toNat (0, 0, []) = ((qOn (mX41_first (A 1 0)), qTw (mX41_first (A 1 0)) (mX41_second (A 1 0)), qFN (mX41_first (A 1 0)) (mX41_second (A 1 0)) l) : qFo)) := fun w => (hc.2 w) c0
      refine ⟨by omega, hr.trans ⟨fun e => Or.inr ⟨k, by omega, by rw [← ft]; exact e⟩, ?_⟩⟩
      rintro (w | ⟨i, hi, e⟩)
      · exact absurd (Or.inl w) nno
      · by_cases y : i = k
        · rw [ft, ← y]; exact e
        · exact absurd (Or.inr ⟨i, by omega, e⟩) nno
    refine kOn_of eD ⟨kx, kOn_of er ⟨(HL 12 t ht.1 (show t < nF from ht.2)).2.1.1, ⟨by omega, by omega⟩, ?_⟩⟩
    rw [eL]
    refine CQR_isSame p3 kc (by omega) k5 (by rw [a5]; decide) ⟨by omega, hn3.2⟩ (fun e => ⟨by omega, fun _ ek => ?_⟩) (fun e => ⟨by omega, fun _ ek => ?_⟩)
    · rw [eqF, eqG] at e
      rw [ek]
      exact ih _ _ (nxt 1 ⟨fun _ => e.symm, fun _ => by decide⟩) (by omega)
    · rw [eqF, eqG] at e
      rw [ek]
      exact ih _ _ (nxt 0 ⟨fun w => absurd rfl w, fun w => absurd w.symm e⟩) (by omega)
end
