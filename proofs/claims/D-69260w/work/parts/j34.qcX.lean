/-! QlRewrite (room QR): atoms of questions -/
section
variable {kd : Nat → Nat} {an : Nat → Nat} {ai : Nat → Int → Int} {al : Nat → Int → Int} {ar : Nat → Int → Option Nat} {mX40_kinds : Nat → Option Nat} {mX40_lefts : Nat → Option Nat} {mX40_rights : Nat → Option Nat} {mX40_axioms : Nat → Int} {mX40_classFacts : Nat → Option Nat} {mX40_roleFacts : Nat → Option Nat} {mX40_facts : Nat → Int} {mX40_draft : Nat → Option Nat} {mX40_questions : Nat → Option Nat} {mX40_questionCount : Nat → Int} {mX40_forbidden : Nat → Option Nat} {mX40_given : Nat → Option Nat} {mX41_first : Nat → Int} {mX41_second : Nat → Int} {mX41_names : Nat → Option Nat} {mX41_from : Nat → Option Nat} {mX41_to : Nat → Option Nat} {mX41_n : Nat → Int} {mX41_codes : Nat → Option Nat} {mX41_least : Nat → Option Nat} {mX41_hasLeast : Nat → Int} {mX41_others : Nat → Option Nat} {mX41_otherCount : Nat → Int} {mX41_named : Nat → Option Nat} {mX62_answers : Nat → Int} {mX62_names : Nat → Option Nat} {mX62_from : Nat → Option Nat} {mX62_to : Nat → Option Nat} {mX62_n : Nat → Int} {mX62_forms : Nat → Option Nat} {mX62_count : Nat → Int} {mX62_large : Nat → Int} {mX62_known : Nat → Int} {mX85_first : Nat → Int} {mX85_second : Nat → Int} {mX85_codes : Nat → Option Nat} {A : Nat → Int → Nat} {G : Nat → Nat × Int} {nq nF na nf nQ : Int} {FF : Int → qFo} {qa qk kf lf rt cf rf sq sf ow : Int → Int} {ql : Int → List qA} {qS : Int → qSS} {QA : Int → Int} {QL : Int → List qA} {x : Nat} {j n k v oc i a b c o f y r pl fl q w z : Int} {l : List qA} {S : qSS} {MC MS : Nat} {F : qFo} {t : qA}
theorem CQR_isQB {P0 P1 : Prop} (h1 : 0 ≤ v ∧ v < mX40_questionCount x → P1) (h0 : ¬ (0 ≤ v ∧ v < mX40_questionCount x) → P0) : wpQR_X40_isQuestion (fun r => (r = 0 → P0) ∧ (¬ r = 0 → P1)) mX40_questionCount x v := by
  unfold wpQR_X40_isQuestion wpQR_X40_isIn
  exact ⟨fun z => ⟨Or.inl rfl, fun _ => h0 (by omega), fun y => absurd rfl y⟩, fun z => ⟨fun y => ⟨Or.inl rfl, fun _ => h0 (by omega), fun w => absurd rfl w⟩, fun y => ⟨Or.inr rfl, fun w => absurd w (by decide), fun _ => h1 (by omega)⟩⟩⟩
/-- a question's arrays -/
theorem qcR.q10 (H : qcR kd an ai al ar mX40_kinds mX40_lefts mX40_rights mX40_axioms mX40_classFacts mX40_roleFacts mX40_facts mX40_draft mX40_questions mX40_questionCount mX40_forbidden mX40_given mX41_first mX41_second mX41_names mX41_from mX41_to mX41_n mX41_codes mX41_least mX41_hasLeast mX41_others mX41_otherCount mX41_named mX62_answers mX62_names mX62_from mX62_to mX62_n mX62_forms mX62_count mX62_large mX62_known mX85_first mX85_second mX85_codes A G nq nF FF qa ql qS qk kf lf rt na cf rf nf nQ sq sf ow) (hj : 0 ≤ j ∧ j < nq) : kd (A 9 j) = 3 ∧ (kd (A 10 (3 * j)) = 5 ∧ an (A 10 (3 * j)) = 4) ∧ (kd (A 10 (3 * j + 1)) = 5 ∧ an (A 10 (3 * j + 1)) = 4) ∧ (kd (A 10 (3 * j + 2)) = 5 ∧ an (A 10 (3 * j + 2)) = 4) ∧ (A 10 (3 * j)) ≠ (A 10 (3 * j + 1)) ∧ (A 10 (3 * j)) ≠ (A 10 (3 * j + 2)) ∧ (A 10 (3 * j + 1)) ≠ (A 10 (3 * j + 2)) := by
  obtain ⟨⟨HL, q0, f0⟩, _⟩ := H
  have h0 := HL 10 (3 * j) (by omega) (show 3 * j < 3 * nq by omega)
  have h1 := HL 10 (3 * j + 1) (by omega) (show 3 * j + 1 < 3 * nq by omega)
  have h2 := HL 10 (3 * j + 2) (by omega) (show 3 * j + 2 < 3 * nq by omega)
  have b0 : 0 ≤ 3 * j ∧ 3 * j < qcLN nq nF 10 := ⟨by omega, show 3 * j < 3 * nq by omega⟩
  have b1 : 0 ≤ 3 * j + 1 ∧ 3 * j + 1 < qcLN nq nF 10 := ⟨by omega, show 3 * j + 1 < 3 * nq by omega⟩
  have b2 : 0 ≤ 3 * j + 2 ∧ 3 * j + 2 < qcLN nq nF 10 := ⟨by omega, show 3 * j + 2 < 3 * nq by omega⟩
  exact ⟨(HL 9 j hj.1 (show j < nq from hj.2)).2.1.1, ⟨h0.2.1.1, h0.2.2 (by decide)⟩, ⟨h1.2.1.1, h1.2.2 (by decide)⟩, ⟨h2.2.1.1, h2.2.2 (by decide)⟩, HL.ne b0 b1 (Or.inr (by omega)), HL.ne b0 b2 (Or.inr (by omega)), HL.ne b1 b2 (Or.inr (by omega))⟩
/-- one more atom -/
theorem qcR.addQ {ai' : Nat → Int → Int} {n9' kn' : Nat → Int} (H : qcR kd an ai al ar mX40_kinds mX40_lefts mX40_rights mX40_axioms mX40_classFacts mX40_roleFacts mX40_facts mX40_draft mX40_questions mX40_questionCount mX40_forbidden mX40_given mX41_first mX41_second mX41_names mX41_from mX41_to mX41_n mX41_codes mX41_least mX41_hasLeast mX41_others mX41_otherCount mX41_named mX62_answers mX62_names mX62_from mX62_to mX62_n mX62_forms mX62_count mX62_large mX62_known mX85_first mX85_second mX85_codes A G nq nF FF qa ql qS qk kf lf rt na cf rf nf nQ sq sf ow) (hj : 0 ≤ j ∧ j < nq) (hl : mX62_n (A 9 j) < 4) (hg : qGa (c, a, b)) (e1 : ai' (A 10 (3 * j)) = updI (ai (A 10 (3 * j))) (mX62_n (A 9 j)) c) (e2 : ai' (A 10 (3 * j + 1)) = updI (ai (A 10 (3 * j + 1))) (mX62_n (A 9 j)) a) (e3 : ai' (A 10 (3 * j + 2)) = updI (ai (A 10 (3 * j + 2))) (mX62_n (A 9 j)) b) (eo : ∀ p, p ≠ (A 10 (3 * j)) → p ≠ (A 10 (3 * j + 1)) → p ≠ (A 10 (3 * j + 2)) → ai' p = ai p) (en : n9' = va_up mX62_n (A 9 j) (mX62_n (A 9 j) + 1)) (ek : kn' = va_up mX62_known (A 9 j) (-1)) : qcR kd an (ai') al ar mX40_kinds mX40_lefts mX40_rights mX40_axioms mX40_classFacts mX40_roleFacts mX40_facts mX40_draft mX40_questions mX40_questionCount mX40_forbidden mX40_given mX41_first mX41_second mX41_names mX41_from mX41_to mX41_n mX41_codes mX41_least mX41_hasLeast mX41_others mX41_otherCount mX41_named mX62_answers mX62_names mX62_from mX62_to (n9') mX62_forms mX62_count mX62_large (kn') mX85_first mX85_second mX85_codes A G nq nF FF qa (updI ql j (ql j ++ [(c, a, b)])) qS (updI qk j (-1)) kf lf rt na cf rf nf nQ sq sf ow := by
  obtain ⟨⟨HL, q0, f0⟩, Fl, D, HF, HQ, HX, HC, HS⟩ := H
  have oa : ∀ i t, 0 ≤ t → t < qcLN nq nF i → (i = 10 → ¬ (3 * j ≤ t ∧ t < 3 * j + 3)) → ai' (A i t) = ai (A i t) := fun i t t0 t1 h => by
    have ne : ∀ u, (u = 3 * j ∨ u = 3 * j + 1 ∨ u = 3 * j + 2) → A i t ≠ A 10 u := fun u hu => HL.ne ⟨t0, t1⟩ ⟨by omega, show u < 3 * nq by omega⟩ (by
      by_cases y : i = 10
      · have := h y
        right; omega
      · exact Or.inl y)
    exact eo _ (ne _ (Or.inl rfl)) (ne _ (Or.inr (Or.inl rfl))) (ne _ (Or.inr (Or.inr rfl)))
  have n1 : ∀ t, 0 ≤ t → t < nq → ¬ t = j → A 9 t ≠ A 9 j := fun t t0 t1 h => HL.ne ⟨t0, show t < nq from t1⟩ ⟨hj.1, show j < nq from hj.2⟩ (Or.inr h)
  refine ⟨⟨HL, q0, f0⟩, Fl, D, fun r r0 r1 => (HF r r0 r1).tr rfl rfl rfl rfl rfl rfl (oa 13 r r0 r1 (fun e => absurd e (by decide))), fun i i0 i1 => ?_, HX.tr rfl rfl rfl rfl (oa 2 0 (by decide) (show (0 : Int) < 3 by decide) (fun e => absurd e (by decide))) (oa 2 1 (by decide) (show (1 : Int) < 3 by decide) (fun e => absurd e (by decide))) (oa 2 2 (by decide) (show (2 : Int) < 3 by decide) (fun e => absurd e (by decide))), HC.tr rfl rfl rfl (oa 3 0 (by decide) (show (0 : Int) < 1 by decide) (fun e => absurd e (by decide))) (oa 4 0 (by decide) (show (0 : Int) < 1 by decide) (fun e => absurd e (by decide))), HS⟩
  rw [updI_e, updI_e]
  by_cases w : i = j
  · rw [if_pos w, if_pos w, w]
    obtain ⟨h1, h2, h3, h4, h5⟩ := (HQ j hj.1 hj.2).1
    refine ⟨⟨h1, h2, ?_, ?_, ?_⟩, (HQ j hj.1 hj.2).2.1, ?_⟩
    · rw [en, va_up_self]; omega
    · have g1 : qAr (ai' (A 10 (3 * j))) (ai' (A 10 (3 * j + 1))) (ai' (A 10 (3 * j + 2))) (mX62_n (A 9 j)) = (c, a, b) := by
        unfold qAr
        rw [e1, e2, e3, updI_s, updI_s, updI_s]
      have g2 : aF (qAr (ai' (A 10 (3 * j))) (ai' (A 10 (3 * j + 1))) (ai' (A 10 (3 * j + 2)))) 0 (mX62_n (A 9 j)).toNat = ql j := by
        rw [← h4]
        refine aF_c _ _ (fun u u0 u1 => ?_)
        unfold qAr
        rw [e1, e2, e3, updI_n (by omega), updI_n (by omega), updI_n (by omega)]
      rw [en, va_up_self, show (mX62_n (A 9 j) + 1).toNat = (mX62_n (A 9 j)).toNat + 1 by omega, aF_s, g2, show (0 : Int) + ((mX62_n (A 9 j)).toNat : Int) = mX62_n (A 9 j) by omega, g1]
    · intro t ht
      rcases List.mem_append.1 ht with y | y
      · exact h5 t y
      · rw [List.mem_singleton.1 y]; exact hg
    · rw [ek, va_up_self]
  · rw [if_neg w, if_neg w]
    have Q := (HQ i i0 i1).1.tr (A' := A) (ai' := ai') rfl rfl rfl rfl rfl (oa 10 _ (by omega) (show _ < 3 * nq by omega) (fun _ => by omega)) (oa 10 _ (by omega) (show _ < 3 * nq by omega) (fun _ => by omega)) (oa 10 _ (by omega) (show _ < 3 * nq by omega) (fun _ => by omega))
    unfold qcQ1 at Q ⊢
    refine ⟨?_, (HQ i i0 i1).2.1, ?_⟩
    · rw [en, va_up_ne _ _ (n1 i i0 i1 w)]; exact Q
    · rw [ek, va_up_ne _ _ (n1 i i0 i1 w)]; exact (HQ i i0 i1).2.2
theorem CQR_hasQ {post : Int → Prop} (H : qcR kd an ai al ar mX40_kinds mX40_lefts mX40_rights mX40_axioms mX40_classFacts mX40_roleFacts mX40_facts mX40_draft mX40_questions mX40_questionCount mX40_forbidden mX40_given mX41_first mX41_second mX41_names mX41_from mX41_to mX41_n mX41_codes mX41_least mX41_hasLeast mX41_others mX41_otherCount mX41_named mX62_answers mX62_names mX62_from mX62_to mX62_n mX62_forms mX62_count mX62_large mX62_known mX85_first mX85_second mX85_codes A G nq nF FF qa ql qS qk kf lf rt na cf rf nf nQ sq sf ow) (hj : 0 ≤ j ∧ j < nq) (hp : ∀ v, (v = 0 ∨ v = 1) → (¬ v = 0 ↔ (c, a, b) ∈ ql j) → post v) : wpQR_X62_has post kd an ai mX62_names mX62_from mX62_to mX62_n (A 9 j) c a b := by
  obtain ⟨kj, ⟨k0, a0⟩, ⟨k1, a1⟩, ⟨k2, a2⟩, _⟩ := H.q10 hj
  obtain ⟨_, _, _, _, HQ, _⟩ := H
  obtain ⟨h1, ⟨m1, m2, m3, m4⟩, h3, h4, h5⟩ := (HQ j hj.1 hj.2).1
  have mem : (c, a, b) ∈ ql j ↔ ∃ i : Int, (0 ≤ i ∧ i < mX62_n (A 9 j)) ∧ ai (A 10 (3 * j)) i = c ∧ ai (A 10 (3 * j + 1)) i = a ∧ ai (A 10 (3 * j + 2)) i = b := by
    rw [← h4, aF_mem]
    constructor
    · rintro ⟨i, hi, e⟩
      injection e with u1 u2
      injection u2 with u2 u3
      exact ⟨i, by omega, u1.symm, u2.symm, u3.symm⟩
    · rintro ⟨i, hi, u1, u2, u3⟩
      refine ⟨i, by omega, ?_⟩
      unfold qAr
      rw [u1, u2, u3]
  unfold wpQR_X62_has
  refine wl2 (fun fu s i => wQR_X62_has_6 (fun (x4_28 : Int) => (x4_28 = 0 ∨ x4_28 = 1) ∧ ((post x4_28))) (A 9 j) c a b kd an ai mX62_names mX62_from mX62_to mX62_n fu s i) (fun s i => (0 ≤ i ∧ i ≤ mX62_n (A 9 j)) ∧ (s = 0 ∨ s = 1) ∧ (¬ s = 0 ↔ ∃ u : Int, (0 ≤ u ∧ u < i) ∧ ai (A 10 (3 * j)) u = c ∧ ai (A 10 (3 * j + 1)) u = a ∧ ai (A 10 (3 * j + 2)) u = b)) (fun s i => (4 - i).toNat) ?_ 0 0 ⟨⟨by omega, h3.1⟩, Or.inl rfl, fun w => absurd rfl w, fun w => by obtain ⟨u, hu, _⟩ := w; omega⟩
  rintro s i ⟨hi, hs, hiff⟩ fu ih
  rw [wQR_X62_has_6]
  dsimp only
  have st : ∀ v : Int, ¬ mX62_n (A 9 j) ≤ i → s = 0 → (v = 0 ∨ v = 1) → (¬ v = 0 ↔ ai (A 10 (3 * j)) i = c ∧ ai (A 10 (3 * j + 1)) i = a ∧ ai (A 10 (3 * j + 2)) i = b) → zR (i + 1) ∧ ∀ i2 : Int, i2 = i + 1 → wQR_X62_has_6 (fun (x4_28 : Int) => (x4_28 = 0 ∨ x4_28 = 1) ∧ ((post x4_28))) (A 9 j) c a b kd an ai mX62_names mX62_from mX62_to mX62_n fu v i2 := fun v hn s0 hv hvi => ⟨by omega, fun i2 e2 => by
    rw [e2]
    refine ih v (i + 1) ⟨⟨by omega, by omega⟩, hv, ?_⟩ (by omega)
    rw [hvi]
    constructor
    · intro h; exact ⟨i, ⟨hi.1, by omega⟩, h⟩
    · rintro ⟨u, hu, h⟩
      by_cases y : u = i
      · rw [y] at h; exact h
      · exact absurd s0 (hiff.2 ⟨u, by omega, h⟩)⟩
  refine ⟨fun z => ⟨hs, hp s hs ?_⟩, fun z => ⟨fun s0 => kOn_of m1 ⟨k0, by omega, fun c1 => kOn_of m2 ⟨k1, by omega, fun c2 => kOn_of m3 ⟨k2, by omega, fun c3 => st 1 z s0 (Or.inr rfl) ⟨fun _ => ⟨c1, c2, c3⟩, fun _ => by decide⟩, fun c3 => st 0 z s0 (Or.inl rfl) ⟨fun w => absurd rfl w, fun w => absurd w.2.2 c3⟩⟩, fun c2 => st 0 z s0 (Or.inl rfl) ⟨fun w => absurd rfl w, fun w => absurd w.2.1 c2⟩⟩, fun c1 => st 0 z s0 (Or.inl rfl) ⟨fun w => absurd rfl w, fun w => absurd w.1 c1⟩⟩, fun s1 => ⟨by omega, fun i2 e2 => ?_⟩⟩⟩
  · rw [mem, hiff, show i = mX62_n (A 9 j) by omega]
  · rw [e2]
    refine ih 1 (i + 1) ⟨⟨by omega, by omega⟩, Or.inr rfl, fun _ => ?_, fun _ => by decide⟩ (by omega)
    obtain ⟨u, hu, h⟩ := hiff.1 s1
    exact ⟨u, by omega, h⟩
theorem CQR_addQ {post : (Nat → Int → Int) → (Nat → Int) → (Nat → Int) → Prop} (H : qcR kd an ai al ar mX40_kinds mX40_lefts mX40_rights mX40_axioms mX40_classFacts mX40_roleFacts mX40_facts mX40_draft mX40_questions mX40_questionCount mX40_forbidden mX40_given mX41_first mX41_second mX41_names mX41_from mX41_to mX41_n mX41_codes mX41_least mX41_hasLeast mX41_others mX41_otherCount mX41_named mX62_answers mX62_names mX62_from mX62_to mX62_n mX62_forms mX62_count mX62_large mX62_known mX85_first mX85_second mX85_codes A G nq nF FF qa ql qS qk kf lf rt na cf rf nf nQ sq sf ow) (hj : 0 ≤ j ∧ j < nq) (hl : (ql j).length < 4) (hg : qGa (c, a, b)) (hp : ∀ ai' n9' kn', qcR kd an (ai') al ar mX40_kinds mX40_lefts mX40_rights mX40_axioms mX40_classFacts mX40_roleFacts mX40_facts mX40_draft mX40_questions mX40_questionCount mX40_forbidden mX40_given mX41_first mX41_second mX41_names mX41_from mX41_to mX41_n mX41_codes mX41_least mX41_hasLeast mX41_others mX41_otherCount mX41_named mX62_answers mX62_names mX62_from mX62_to (n9') mX62_forms mX62_count mX62_large (kn') mX85_first mX85_second mX85_codes A G nq nF FF qa (updI ql j (ql j ++ [(c, a, b)])) qS (updI qk j (-1)) kf lf rt na cf rf nf nQ sq sf ow → n9' (A 9 j) = ((ql j).length : Int) + 1 → (∀ p, p ≠ (A 10 (3 * j)) → p ≠ (A 10 (3 * j + 1)) → p ≠ (A 10 (3 * j + 2)) → ai' p = ai p) → post ai' n9' kn') : wpQR_X62_add post kd an ai mX62_names mX62_from mX62_to mX62_n mX62_known (A 9 j) c a b := by
  obtain ⟨kj, ⟨k0, a0⟩, ⟨k1, a1⟩, ⟨k2, a2⟩, n01, n02, n12⟩ := H.q10 hj
  have H0 := H
  obtain ⟨_, _, _, _, HQ, _⟩ := H
  obtain ⟨h1, ⟨m1, m2, m3, m4⟩, h3, h4, h5⟩ := (HQ j hj.1 hj.2).1
  have len : ((ql j).length : Int) = mX62_n (A 9 j) := by
    rw [← h4, aF_len]; omega
  unfold wpQR_X62_add
  refine kOn_of m1 ⟨k0, by omega, fun ai1 e1 => kOn_of m2 ⟨k1, by omega, fun ai2 e2 => kOn_of m3 ⟨k2, by omega, fun ai3 e3 => ⟨by omega, fun v ev n9' en kn' ek => ?_⟩⟩⟩⟩
  have f1 : ai1 (A 10 (3 * j)) = updI (ai (A 10 (3 * j))) (mX62_n (A 9 j)) c := by rw [e1, va_up_self]
  have f2 : ai2 (A 10 (3 * j + 1)) = updI (ai (A 10 (3 * j + 1))) (mX62_n (A 9 j)) a := by rw [e2, va_up_self, e1, va_up_ne _ _ (Ne.symm n01)]
  have f3 : ai3 (A 10 (3 * j + 2)) = updI (ai (A 10 (3 * j + 2))) (mX62_n (A 9 j)) b := by rw [e3, va_up_self, e2, va_up_ne _ _ (Ne.symm n12), e1, va_up_ne _ _ (Ne.symm n02)]
  refine hp ai3 n9' kn' (qcR.addQ H0 hj (by omega) hg ?_ ?_ f3 (fun p p0 p1 p2 => ?_) (by rw [en, ev]) ek) ?_ (fun p p0 p1 p2 => by rw [e3, va_up_ne _ _ p2, e2, va_up_ne _ _ p1, e1, va_up_ne _ _ p0])
  · rw [e3, va_up_ne _ _ n02, e2, va_up_ne _ _ n01]; exact f1
  · rw [e3, va_up_ne _ _ n12]; exact f2
  · rw [e3, va_up_ne _ _ p2, e2, va_up_ne _ _ p1, e1, va_up_ne _ _ p0]
  · rw [en, va_up_self, ev]; omega
theorem qTc_g (h : qTc r q n w a b) : qGa (qCc r w, 8 + a, if r = 0 then 7 else 8 + b) := by
  obtain ⟨hq, ha, h0, h1⟩ := h
  unfold qGa qCc
  by_cases z : r = 0
  · rw [if_pos z, if_pos z]
    exact Or.inl ⟨h0 z, rfl, show ¬ 8 + a = 7 by omega⟩
  · rw [if_neg z, if_neg z]
    have := h1 z
    exact Or.inr ⟨show 32 ≤ 32 + w ∧ 32 + w < 40 by omega, show ¬ 8 + b = 7 by omega, show ¬ 8 + a = 7 by omega⟩
theorem CQR_atom {post : Int → (Nat → Int → Int) → (Nat → Int) → (Nat → Int) → Prop} (Rm : qcRm kd an ai al ar mX40_kinds mX40_lefts mX40_rights mX40_axioms mX40_classFacts mX40_roleFacts mX40_facts mX40_draft mX40_questions mX40_questionCount mX40_forbidden mX40_given mX41_first mX41_second mX41_names mX41_from mX41_to mX41_n mX41_codes mX41_least mX41_hasLeast mX41_others mX41_otherCount mX41_named mX62_answers mX62_names mX62_from mX62_to mX62_n mX62_forms mX62_count mX62_large mX62_known mX85_first mX85_second mX85_codes x kf lf rt na cf rf nf nQ QA QL) (h1 : ¬ qTc r q nQ w a b → post (-1) ai mX62_n mX62_known) (h2 : qTc r q nQ w a b → (qCc r w, 8 + a, if r = 0 then 7 else 8 + b) ∈ QL q → post ((QL q).length : Int) ai mX62_n mX62_known) (h3 : qTc r q nQ w a b → ¬ (qCc r w, 8 + a, if r = 0 then 7 else 8 + b) ∈ QL q → (QL q).length = 4 → post (-2) ai mX62_n mX62_known)
  (h4 : qTc r q nQ w a b → ¬ (qCc r w, 8 + a, if r = 0 then 7 else 8 + b) ∈ QL q → (QL q).length < 4 → ∀ ai' n9' kn', qcRm kd an (ai') al ar mX40_kinds mX40_lefts mX40_rights mX40_axioms mX40_classFacts mX40_roleFacts mX40_facts mX40_draft mX40_questions mX40_questionCount mX40_forbidden mX40_given mX41_first mX41_second mX41_names mX41_from mX41_to mX41_n mX41_codes mX41_least mX41_hasLeast mX41_others mX41_otherCount mX41_named mX62_answers mX62_names mX62_from mX62_to (n9') mX62_forms mX62_count mX62_large (kn') mX85_first mX85_second mX85_codes x kf lf rt na cf rf nf nQ QA (updI QL q (QL q ++ [(qCc r w, 8 + a, if r = 0 then 7 else 8 + b)])) → post (((QL q).length : Int) + 1) ai' n9' kn') : wpQR_X40_atom post kd an ai ar mX40_questions mX40_questionCount mX62_names mX62_from mX62_to mX62_n mX62_known x q r w a b := by
  obtain ⟨A, G, nq, nF, FF, qa, ql, qS, qk, sq, sf, ow, e0, H, K, hQ, hX⟩ := Rm
  subst e0
  have H0 := H
  obtain ⟨⟨HL, q0, f0⟩, Fl, D, HF, HQ, HX, HC, HS⟩ := H
  have enq := HS.1.1
  have body : ∀ T : qA, T.1 = qCc r w → T.2.1 = 8 + a → T.2.2 = (if r = 0 then 7 else 8 + b) → qTc r q nQ w a b → wQR_X40_atom_110 post (some (A 9 (sq q))) (T.2.1) (T.2.2) (T.1) kd an ai mX62_names mX62_from mX62_to mX62_n mX62_known := fun T t1 t2 t3 C => by
    have hq := C.1
    obtain ⟨g1, g2, g3, g4, g5, g6⟩ := H0.qst hq
    have eL := (hQ q hq.1 hq.2).2
    have n4 := (HQ (sq q) g6.1 g6.2).1.2.2.1
    have el := (HQ (sq q) g6.1 g6.2).1.2.2.2.1
    have len : ((ql (sq q)).length : Int) = mX62_n (A 9 (sq q)) := by
      rw [← el, aF_len]; omega
    have eT : T = (qCc r w, 8 + a, if r = 0 then 7 else 8 + b) := by
      rw [← t1, ← t2, ← t3]
    unfold wQR_X40_atom_110
    refine kOn_some ⟨g5, CQR_hasQ H0 g6 (fun v hv hiff => ⟨fun z => ⟨fun y => h3 C ?_ ?_, fun y => CQR_addQ H0 g6 (by omega) ?_ (fun ai' n9' kn' R' en => ?_)⟩, fun z => ?_⟩)⟩
    · intro m
      rw [← eL, ← eT] at m
      exact hiff.2 m z
    · rw [← eL]; omega
    · have := qTc_g C
      rw [← eT] at this; exact this
    · rw [en, eL]
      intro _
      have R2 : qcR kd an (ai') al ar mX40_kinds mX40_lefts mX40_rights mX40_axioms mX40_classFacts mX40_roleFacts mX40_facts mX40_draft mX40_questions mX40_questionCount mX40_forbidden mX40_given mX41_first mX41_second mX41_names mX41_from mX41_to mX41_n mX41_codes mX41_least mX41_hasLeast mX41_others mX41_otherCount mX41_named mX62_answers mX62_names mX62_from mX62_to (n9') mX62_forms mX62_count mX62_large (kn') mX85_first mX85_second mX85_codes A G nq nF FF qa (updI ql (sq q) (ql (sq q) ++ [(qCc r w, 8 + a, if r = 0 then 7 else 8 + b)])) qS (updI qk (sq q) (-1)) kf lf rt na cf rf nf nQ sq sf ow := by
        rw [← eT]; exact R'
      have b4 : (QL q).length < 4 := by
        rw [← eL]; omega
      refine h4 C (fun m => ?_) b4 ai' n9' kn' ⟨A, G, nq, nF, FF, qa, _, qS, _, sq, sf, ow, rfl, R2, fun i i0 i1 => ?_, fun p p0 p1 => ?_, fun y y0 y1 y2 => ?_⟩
      · rw [← eL, ← eT] at m
        exact hiff.2 m z
      · rw [updI_e, updI_e]
        by_cases u : i = sq q
        · rw [if_pos u, if_pos u]
          have := HX.2.1.1.1
          exact ⟨by omega, fun w => by omega⟩
        · rw [if_neg u, if_neg u]; exact K i i0 i1
      · rw [updI_e, updI_e]
        by_cases u : p = q
        · rw [if_pos u, u, if_pos rfl, eL]; exact ⟨(hQ q hq.1 hq.2).1, rfl⟩
        · have o1 := (HS.2.1 p p0 p1).2.2
          have o2 := (HS.2.1 q hq.1 hq.2).2.2
          rw [if_neg u, if_neg (fun e => by rw [e, o2] at o1; exact u o1.symm)]
          exact hQ p p0 p1
      · have o1 := ((HS.2.2 y y0 y1).2 y2).2.2
        have o2 := (HS.2.1 q hq.1 hq.2).2.2
        have b6 := HS.1.2
        rw [updI_n (fun e => by rw [e, o2] at o1; omega)]
        exact hX y y0 y1 y2
    · have m : (qCc r w, 8 + a, if r = 0 then 7 else 8 + b) ∈ QL q := by
        rw [← eL, ← eT]; exact hiff.1 z
      have P := h2 C m
      rw [← eL, len] at P
      exact P
  have g : qTc r q nQ w a b → wQR_X40_atom_58 post (A 0 0) q r w a b 1 kd an ai ar mX40_questions mX62_names mX62_from mX62_to mX62_n mX62_known := fun C => by
    obtain ⟨g1, g2, g3, g4, g5, g6⟩ := H0.qst C.1
    have b6 := HS.1.2
    have C1 := C.1
    have C2 := C.2.1
    have C3 := C.2.2.1
    have C4 := C.2.2.2
    unfold wQR_X40_atom_58
    refine ⟨fun z => absurd z (by decide), fun _ => kOn_of g1 ⟨g2, by rw [g3]; omega, fun r1 e1 => ⟨by omega, fun x8 e8 => ?_⟩⟩⟩
    rw [g4] at e1
    rw [e1, e8]
    refine ⟨fun r0 => ⟨fun _ => ?_, fun z => absurd r0 z⟩, fun r0 => ⟨?_, fun x9 e9 => ⟨fun z => absurd z r0, fun _ => ⟨?_, ?_⟩⟩⟩⟩
    · exact body (w, 8 + a, 7) (by unfold qCc; rw [if_pos r0]) rfl (by rw [if_pos r0]) C
    · have := C4 r0
      omega
    · have := C4 r0
      omega
    · rw [e9]
      exact body (32 + w, 8 + a, 8 + b) (by unfold qCc; rw [if_neg r0]) rfl (by rw [if_neg r0]) C
  have no : ¬ qTc r q nQ w a b → wQR_X40_atom_58 post (A 0 0) q r w a b 0 kd an ai ar mX40_questions mX62_names mX62_from mX62_to mX62_n mX62_known := fun C => by
    unfold wQR_X40_atom_58
    exact ⟨fun _ => h1 C, fun z => absurd rfl z⟩
  unfold wpQR_X40_atom
  refine CQR_isQB (fun c1 => CQR_isInB (fun c2 => ⟨fun r0 => CQR_isInB (fun c3 => g ⟨by omega, c2, fun _ => c3, fun z => absurd r0 z⟩) (fun c3 => no (fun C => c3 (C.2.2.1 r0))), fun r0 => CQR_isInB (fun c3 => CQR_isInB (fun c4 => g ⟨by omega, c2, fun z => absurd z r0, fun _ => ⟨c3, c4⟩⟩) (fun c4 => no (fun C => c4 (C.2.2.2 r0).2))) (fun c3 => no (fun C => c3 (C.2.2.2 r0).1))⟩) (fun c2 => no (fun C => c2 C.2.1))) (fun c1 => no (fun C => c1 (by rw [enq]; exact C.1)))
end

/-! QlRewrite (room QR): axioms -/
def qcLn (k y o : Int) (l : List qA) : List qA := if ¬ (k = 2 ∧ y < 20) ∧ qcLa k y o ∈ l then l else l ++ [qcLa k y o]
theorem qcLn_y {kx L Rr : Int} : qcLn kx Rr 1 (qcLn kx L 0 []) = qcLy kx L Rr := by
  have e : qcLn kx L 0 [] = [qcLa kx L 0] := if_neg (fun h => by simp at h)
  rw [e]
  unfold qcLn qcLy
  by_cases z : ¬ (kx = 2 ∧ Rr < 20) ∧ qcLa kx L 0 = qcLa kx Rr 1
  · rw [if_pos z, if_pos ⟨z.1, List.mem_singleton.2 z.2.symm⟩]
  · rw [if_neg z, if_neg (fun h => z ⟨h.1, (List.mem_singleton.1 h.2).symm⟩)]; rfl
theorem qcLa_g {kx v k : Int} (hx : (kx = 3 ∧ 0 ≤ v ∧ v < 16) ∨ (kx = 2 ∧ qSo v)) (hk : k = 0 ∨ k = 1) : qGa (qcLa kx v k) := by
  unfold qcLa qGa
  unfold qSo at hx
  by_cases z : kx = 2 ∧ v < 20
  · rw [if_pos z]
    exact Or.inl ⟨show 0 ≤ v ∧ v < 10 by omega, rfl, show ¬ (0 : Int) = 7 by decide⟩
  · rw [if_neg z]
    refine Or.inr ?_
    dsimp only
    by_cases y : kx = 2
    · rw [if_pos y]
      by_cases u : v % 2 = 0
      · rw [if_pos u, if_pos u, if_pos y]; omega
      · rw [if_neg u, if_neg u, if_pos y]; omega
    · rw [if_neg y]
      by_cases u : v % 2 = 0
      · rw [if_pos u, if_pos u, if_neg y]; omega
      · rw [if_neg u, if_neg u, if_neg y]; omega
section
variable {kd : Nat → Nat} {an : Nat → Nat} {ai : Nat → Int → Int} {al : Nat → Int → Int} {ar : Nat → Int → Option Nat} {mX40_kinds : Nat → Option Nat} {mX40_lefts : Nat → Option Nat} {mX40_rights : Nat → Option Nat} {mX40_axioms : Nat → Int} {mX40_classFacts : Nat → Option Nat} {mX40_roleFacts : Nat → Option Nat} {mX40_facts : Nat → Int} {mX40_draft : Nat → Option Nat} {mX40_questions : Nat → Option Nat} {mX40_questionCount : Nat → Int} {mX40_forbidden : Nat → Option Nat} {mX40_given : Nat → Option Nat} {mX41_first : Nat → Int} {mX41_second : Nat → Int} {mX41_names : Nat → Option Nat} {mX41_from : Nat → Option Nat} {mX41_to : Nat → Option Nat} {mX41_n : Nat → Int} {mX41_codes : Nat → Option Nat} {mX41_least : Nat → Option Nat} {mX41_hasLeast : Nat → Int} {mX41_others : Nat → Option Nat} {mX41_otherCount : Nat → Int} {mX41_named : Nat → Option Nat} {mX62_answers : Nat → Int} {mX62_names : Nat → Option Nat} {mX62_from : Nat → Option Nat} {mX62_to : Nat → Option Nat} {mX62_n : Nat → Int} {mX62_forms : Nat → Option Nat} {mX62_count : Nat → Int} {mX62_large : Nat → Int} {mX62_known : Nat → Int} {mX85_first : Nat → Int} {mX85_second : Nat → Int} {mX85_codes : Nat → Option Nat} {A : Nat → Int → Nat} {G : Nat → Nat × Int} {nq nF na nf nQ : Int} {FF : Int → qFo} {qa qk kf lf rt cf rf sq sf ow : Int → Int} {ql : Int → List qA} {qS : Int → qSS} {QA : Int → Int} {QL : Int → List qA} {x : Nat} {j n k v oc i a b c o f y r pl fl q w z : Int} {l : List qA} {S : qSS} {MC MS kc ks : Nat} {F : qFo} {t : qA}
theorem CQR_c28 {K12 : Int → (Nat → Int → Int) → (Nat → Int) → (Nat → Int) → Prop} (H : qcR kd an ai al ar mX40_kinds mX40_lefts mX40_rights mX40_axioms mX40_classFacts mX40_roleFacts mX40_facts mX40_draft mX40_questions mX40_questionCount mX40_forbidden mX40_given mX41_first mX41_second mX41_names mX41_from mX41_to mX41_n mX41_codes mX41_least mX41_hasLeast mX41_others mX41_otherCount mX41_named mX62_answers mX62_names mX62_from mX62_to mX62_n mX62_forms mX62_count mX62_large mX62_known mX85_first mX85_second mX85_codes A G nq nF FF qa ql qS qk kf lf rt na cf rf nf nQ sq sf ow) (hj : 0 ≤ j ∧ j < nq) (hl : (ql j).length < 4) (k1 : qk j = -1) (hx : (z = 0 ∧ k = 3 ∧ 0 ≤ y ∧ y < 16) ∨ (z = 1 ∧ k = 2 ∧ qSo y)) (ho : o = 0 ∨ o = 1) (bC : kc ≤ MC) (bS : ks ≤ MS) (hK : ∀ ai' n9' kn', qcR kd an (ai') al ar mX40_kinds mX40_lefts mX40_rights mX40_axioms mX40_classFacts mX40_roleFacts mX40_facts mX40_draft mX40_questions mX40_questionCount mX40_forbidden mX40_given mX41_first mX41_second mX41_names mX41_from mX41_to mX41_n mX41_codes mX41_least mX41_hasLeast mX41_others mX41_otherCount mX41_named mX62_answers mX62_names mX62_from mX62_to (n9') mX62_forms mX62_count mX62_large (kn') mX85_first mX85_second mX85_codes A G nq nF FF qa (updI ql j (qcLn k y o (ql j))) qS (updI qk j (-1)) kf lf rt na cf rf nf nQ sq sf ow → (∀ p, p ≠ (A 10 (3 * j)) → p ≠ (A 10 (3 * j + 1)) → p ≠ (A 10 (3 * j + 2)) → ai' p = ai p) → K12 (o + 1) ai' n9' kn') : wQR_X40_clash_28 MC MS K12 z (some (A 9 j)) o y kd an ai mX62_names mX62_from mX62_to mX62_n mX62_known kc ks := by
  obtain ⟨kj, _⟩ := H.q10 hj
  have hg : qGa (qcLa k y o) := qcLa_g (by
    rcases hx with h | h
    · exact Or.inl h.2
    · exact Or.inr h.2) ho
  have addc : ∀ t : qA, qcLa k y o = t → qcLn k y o (ql j) = ql j ++ [t] → wpQR_X62_add (fun (ai_ : Nat → Int → Int) (n_ : Nat → Int) (kn_ : Nat → Int) => zR (o + 1) ∧ (∀ w : Int, w = o + 1 → K12 w ai_ n_ kn_)) kd an ai mX62_names mX62_from mX62_to mX62_n mX62_known (A 9 j) t.1 t.2.1 t.2.2 := fun t et el => by
    refine CQR_addQ H hj hl (by rw [← et]; exact hg) (fun ai' n9' kn' R' _ fr => ⟨by omega, fun w ew => ?_⟩)
    rw [ew]
    refine hK ai' n9' kn' ?_ fr
    rw [el]; exact R'
  have main : ¬ (k = 2 ∧ y < 20) → ∀ x6 x7 x8 y2 y3 : Int, (x6 = 0 ∨ x6 = 1) → (x6 = 0 → y2 = 0 ∧ y3 = x7) → (¬ x6 = 0 → y2 = x7 ∧ y3 = 0) → qcLa k y o = (x8, y2, y3) → wQR_X40_clash_130 MC MS K12 (some (A 9 j)) o x6 x7 x8 (some (A 9 j)) x8 y2 y3 kd an ai mX62_names mX62_from mX62_to mX62_n mX62_known kc ks := fun nc x6 x7 x8 y2 y3 h6 s0 s1 et => by
    unfold wQR_X40_clash_130
    refine kOn_some ⟨kj, ⟨bC, bS⟩, CQR_hasQ H hj (fun v hv hiff => ⟨fun v0 => ?_, fun v1 => ⟨by omega, fun w ew => ?_⟩⟩)⟩
    · have nm : ¬ qcLa k y o ∈ ql j := fun m => hiff.2 (by rw [← et]; exact m) v0
      have el : qcLn k y o (ql j) = ql j ++ [(x8, y2, y3)] := by
        unfold qcLn
        rw [if_neg (fun h => nm h.2), et]
      refine ⟨fun e6 => ⟨fun _ => kOn_some ⟨kj, ⟨bC, bS⟩, ?_⟩, fun h => absurd e6 h⟩, fun e6 => ⟨fun h => absurd h e6, fun _ => kOn_some ⟨kj, ⟨bC, bS⟩, ?_⟩⟩⟩
      · have P := addc _ et el
        rw [(s0 e6).1, (s0 e6).2] at P
        exact P
      · have P := addc _ et el
        rw [(s1 e6).1, (s1 e6).2] at P
        exact P
    · rw [ew]
      refine hK ai mX62_n mX62_known ?_ (fun _ _ _ _ => rfl)
      have el : qcLn k y o (ql j) = ql j := by
        unfold qcLn
        rw [if_pos ⟨nc, by rw [et]; exact hiff.1 v1⟩]
      rw [el, ← k1, updI_ia, updI_ia]; exact H
  have c53 : ¬ (k = 2 ∧ y < 20) → wQR_X40_clash_53 MC MS K12 z (some (A 9 j)) o y kd an ai mX62_names mX62_from mX62_to mX62_n mX62_known kc ks := fun nc => by
    have y0 : 0 ≤ y := by
      unfold qSo at hx; omega
    unfold wQR_X40_clash_53
    refine ⟨fun o1 => ⟨fun z0 => ?_, fun z0 => ⟨by omega, ?_⟩⟩, fun o1 => ⟨fun z0 => ?_, fun z0 => ⟨by omega, ?_⟩⟩⟩
    · have k3 : ¬ k = 2 := by omega
      unfold wQR_X40_clash_80
      refine ⟨fun _ => ?_, fun h => absurd z0 h⟩
      unfold wQR_X40_clash_102
      refine ⟨by unfold qSo at hx; omega, fun x8 e8 => ⟨fun h => absurd h (by decide), fun _ => ⟨fun h => absurd h (by decide), fun _ => ?_⟩⟩⟩
      refine main nc 1 1 x8 1 0 (Or.inr rfl) (fun h => absurd h (by decide)) (fun _ => ⟨rfl, rfl⟩) ?_
      unfold qcLa
      rw [if_neg nc, if_neg k3, if_neg (by omega), if_neg k3, if_neg (by omega), e8]
    · have k2 : k = 2 := by omega
      unfold wQR_X40_clash_80
      refine ⟨fun h => absurd h z0, fun _ => ⟨by unfold qSo at hx; omega, ?_⟩⟩
      unfold wQR_X40_clash_102
      refine ⟨by unfold qSo at hx; omega, fun x8 e8 => ⟨fun h => absurd h (by decide), fun _ => ⟨fun h => absurd h (by decide), fun _ => ?_⟩⟩⟩
      refine main nc 1 (1 + o) x8 (1 + o) 0 (Or.inr rfl) (fun h => absurd h (by decide)) (fun _ => ⟨rfl, rfl⟩) ?_
      unfold qcLa
      rw [if_neg nc, if_pos k2, if_neg (by omega), if_pos k2, if_neg (by omega), e8]
    · have k3 : ¬ k = 2 := by omega
      unfold wQR_X40_clash_80
      refine ⟨fun _ => ?_, fun h => absurd z0 h⟩
      unfold wQR_X40_clash_102
      refine ⟨by unfold qSo at hx; omega, fun x8 e8 => ⟨fun _ => ⟨fun _ => ?_, fun h => absurd rfl h⟩, fun h => absurd rfl h⟩⟩
      refine main nc 0 1 x8 0 1 (Or.inl rfl) (fun _ => ⟨rfl, rfl⟩) (fun h => absurd rfl h) ?_
      unfold qcLa
      rw [if_neg nc, if_neg k3, if_pos (by omega), if_pos (by omega), if_neg k3, e8]
    · have k2 : k = 2 := by omega
      unfold wQR_X40_clash_80
      refine ⟨fun h => absurd h z0, fun _ => ⟨by unfold qSo at hx; omega, ?_⟩⟩
      unfold wQR_X40_clash_102
      refine ⟨by unfold qSo at hx; omega, fun x8 e8 => ⟨fun _ => ⟨fun _ => ?_, fun h => absurd rfl h⟩, fun h => absurd rfl h⟩⟩
      refine main nc 0 (1 + o) x8 0 (1 + o) (Or.inl rfl) (fun _ => ⟨rfl, rfl⟩) (fun h => absurd rfl h) ?_
      unfold qcLa
      rw [if_neg nc, if_pos k2, if_pos (by omega), if_pos (by omega), if_pos k2, e8]
  unfold wQR_X40_clash_28
  refine ⟨fun z0 => c53 (by omega), fun z0 => ⟨fun h => c53 (by omega), fun h => kOn_some ⟨kj, ⟨bC, bS⟩, ?_⟩⟩⟩
  have kc2 : k = 2 ∧ y < 20 := by omega
  have et : qcLa k y o = (y, 0, 7) := by
    unfold qcLa
    rw [if_pos kc2]
  exact addc (y, 0, 7) et (by unfold qcLn; rw [if_neg (fun h => h.1 kc2), et])
theorem CQR_clash {post : (Option Nat) → (Nat → Nat) → (Nat → Nat) → (Nat → Int → Int) → (Nat → Int → Option Nat) → (Nat → Int) → (Nat → Option Nat) → (Nat → Option Nat) → (Nat → Option Nat) → (Nat → Int) → (Nat → Option Nat) → (Nat → Int) → (Nat → Int) → (Nat → Int) → Prop} (H : qcR kd an ai al ar mX40_kinds mX40_lefts mX40_rights mX40_axioms mX40_classFacts mX40_roleFacts mX40_facts mX40_draft mX40_questions mX40_questionCount mX40_forbidden mX40_given mX41_first mX41_second mX41_names mX41_from mX41_to mX41_n mX41_codes mX41_least mX41_hasLeast mX41_others mX41_otherCount mX41_named mX62_answers mX62_names mX62_from mX62_to mX62_n mX62_forms mX62_count mX62_large mX62_known mX85_first mX85_second mX85_codes A G nq nF FF qa ql qS qk kf lf rt na cf rf nf nQ sq sf ow) (hx : (z = 0 ∧ k = 3 ∧ (0 ≤ a ∧ a < 16) ∧ 0 ≤ b ∧ b < 16) ∨ (z = 1 ∧ k = 2 ∧ qSo a ∧ qSo b)) (bC : 5 ≤ MC) (bS : 111 ≤ MS) (hp : ∀ kd' an' ai' ar' an9' ns' fs' ts' n9' fm' cn' lg' kn' A' G', (∀ i t, 0 ≤ t → t < qcLN nq nF i → A' i t = A i t) → qcR (kd') (an') (ai') al (ar') mX40_kinds mX40_lefts mX40_rights mX40_axioms mX40_classFacts mX40_roleFacts mX40_facts mX40_draft mX40_questions mX40_questionCount mX40_forbidden mX40_given mX41_first mX41_second mX41_names mX41_from mX41_to mX41_n mX41_codes mX41_least mX41_hasLeast mX41_others mX41_otherCount mX41_named (an9') (ns') (fs') (ts') (n9') (fm') (cn') (lg') (kn') mX85_first mX85_second mX85_codes A' G' (nq + 1) nF FF (updI qa nq 0) (updI ql nq (qcLy k a b)) (updI qS nq ([], 0)) (updI qk nq (-1)) kf lf rt na cf rf nf nQ sq sf ow → (∀ u, 0 ≤ u → u < 3 → ai' (A 2 u) = ai (A 2 u)) → post (some (A' 9 nq)) kd' an' ai' ar' an9' ns' fs' ts' n9' fm' cn' lg' kn') : wpQR_X40_clash MC MS post kd an ai ar mX62_answers mX62_names mX62_from mX62_to mX62_n mX62_forms mX62_count mX62_large mX62_known z a b := by
  have H0 := H
  obtain ⟨⟨HL, q0, f0⟩, Fl, D, HF, HQ, HX, HC, HS⟩ := H
  unfold wpQR_X40_clash
  refine ⟨⟨by omega, by omega⟩, fun q1 hq1 g1 eg1 g2 eg2 g3 eg3 g4 eg4 g5 eg5 g6 eg6 g7 eg7 g8 eg8 g9 eg9 => ⟨4, 102, ⟨by omega, by omega⟩, CQR_initQ (Nat.le_refl _) (Nat.le_refl _) (fun p1 p2 p3 p4 hp1 hp2 hp3 hp4 ai' eai le => ⟨3, ?_⟩)⟩⟩
  subst eg1 eg2 eg3 eg4 eg5 eg6 eg7 eg8 eg9
  obtain ⟨A', G', sm, s9, R'⟩ := qcR.newq (v := 0) (ai' := ai') (ar' := va_up ar p4 (fun _ => none)) H0 hq1 hp1 hp2 hp3 hp4 (by decide) eai (fun b hb => va_up_ne _ _ hb) (va_up_up (v := 0)) va_up_up va_up_up va_up_up (va_up_up (v := none)) rfl rfl rfl va_up_up
  have a2 : ∀ u, 0 ≤ u → u < 3 → A' 2 u = A 2 u := fun u u0 u1 => sm 2 u u0 (show u < 3 from u1)
  have n2 : ∀ u t, 0 ≤ u → u < 3 → 0 ≤ t → t < 3 * (nq + 1) → A 2 u ≠ A' 10 t := fun u t u0 u1 t0 t1 => by
    rw [← a2 u u0 u1]
    exact R'.1.1.ne ⟨u0, show u < 3 from u1⟩ ⟨t0, show t < 3 * (nq + 1) from t1⟩ (Or.inl (by decide))
  have b2 : ∀ u, 0 ≤ u → u < 3 → ai' (A 2 u) = ai (A 2 u) := fun u u0 u1 => by
    have lx := kLe_new (an' := an) (K := 3) hq1 (fun _ _ => rfl)
    have l2 := kLe_tr lx (kLe_new (K := 5) (an' := va_up an p1 4) hp1 (fun b hb => va_up_ne _ _ hb))
    have l3 := kLe_tr l2 (kLe_new (K := 5) (an' := va_up (va_up an p1 4) p2 4) hp2 (fun b hb => va_up_ne _ _ hb))
    exact eai _ (labFr HL lx hp1 u0 (show u < 3 from u1)) (labFr HL l2 hp2 u0 (show u < 3 from u1)) (labFr HL l3 hp3 u0 (show u < 3 from u1))
  have hj : 0 ≤ nq ∧ nq < nq + 1 := ⟨q0, by omega⟩
  rw [wQR_X40_clash_12]
  refine ⟨fun h => absurd h (by decide), fun _ => ⟨fun _ => ?_, fun h => absurd rfl h⟩⟩
  subst s9
  refine CQR_c28 (k := k) R' hj (by rw [updI_s]; decide) updI_s (by
    rcases hx with h | h
    · exact Or.inl ⟨h.1, h.2.1, h.2.2.1⟩
    · exact Or.inr ⟨h.1, h.2.1, h.2.2.1⟩) (Or.inl rfl) (by omega) (by omega) (fun ai2 n2' kn2 R2 fr2 => ?_)
  rw [updI_2a, updI_2a, updI_s] at R2
  rw [wQR_X40_clash_12]
  refine ⟨fun h => absurd h (by decide), fun _ => ⟨fun h => absurd h (by decide), fun _ => ?_⟩⟩
  refine CQR_c28 (k := k) R2 hj (by
    rw [updI_s]
    unfold qcLn
    rw [if_neg (fun h => by simp at h)]; show 1 < 4; decide) updI_s (by
    rcases hx with h | h
    · exact Or.inl ⟨h.1, h.2.1, h.2.2.2⟩
    · exact Or.inr ⟨h.1, h.2.1, h.2.2.2⟩) (Or.inr rfl) (by omega) (by omega) (fun ai3 n3 kn3 R3 fr3 => ?_)
  rw [updI_2a, updI_2a, updI_s] at R3
  rw [wQR_X40_clash_12]
  refine ⟨fun _ => ⟨by omega, by omega, ?_⟩, fun h => absurd (by decide) h⟩
  rw [show qcLn k b (0 + 1) (qcLn k a 0 []) = qcLy k a b from qcLn_y] at R3
  refine hp _ _ _ _ _ _ _ _ _ _ _ _ _ A' G' sm R3 (fun u u0 u1 => ?_)
  rw [fr3 _ (n2 u _ u0 u1 (by omega) (by omega)) (n2 u _ u0 u1 (by omega) (by omega)) (n2 u _ u0 u1 (by omega) (by omega)), fr2 _ (n2 u _ u0 u1 (by omega) (by omega)) (n2 u _ u0 u1 (by omega) (by omega)) (n2 u _ u0 u1 (by omega) (by omega))]
  exact b2 u u0 u1
theorem w32_20 (hv : zR v) : (0 ≤ w32 (v - 20) ∧ w32 (v - 20) < 16) ↔ (20 ≤ v ∧ v < 36) := by
  by_cases h : -2147483648 ≤ v - 20
  · rw [w32_id ⟨h, by omega⟩]; omega
  · have e : w32 (v - 20) = v - 20 + 4294967296 := by
      have e2 : w32 (v - 20) = w32 (v - 20 + 4294967296) := by
        unfold w32
        rw [Int.bmod_def, Int.bmod_def]
        omega
      unfold w32 at e2 ⊢
      rw [Int.bmod_def]
      omega
    rw [e]; omega
theorem CQR_isSortB {P0 P1 : Prop} (hv : zR v) (h1 : qSo v → P1) (h0 : ¬ qSo v → P0) : wpQR_X40_isSort (fun r => (r = 0 → P0) ∧ (¬ r = 0 → P1)) v := by
  unfold wpQR_X40_isSort
  have e := w32_20 hv
  unfold qSo at h1 h0
  exact CQR_isInB (fun z => ⟨fun w => absurd w (by decide), fun _ => h1 (Or.inl z)⟩) (fun z => CQR_isInB (fun y => ⟨fun w => absurd w (by decide), fun _ => h1 (Or.inr (e.1 y))⟩) (fun y => ⟨fun _ => h0 (fun h => by
    rcases h with h | h
    · exact z h
    · exact y (e.2 h)), fun w => absurd rfl w⟩))
/-- axioms' arrays beyond the axioms -/
theorem qcR.w2 {ai' : Nat → Int → Int} (H : qcR kd an ai al ar mX40_kinds mX40_lefts mX40_rights mX40_axioms mX40_classFacts mX40_roleFacts mX40_facts mX40_draft mX40_questions mX40_questionCount mX40_forbidden mX40_given mX41_first mX41_second mX41_names mX41_from mX41_to mX41_n mX41_codes mX41_least mX41_hasLeast mX41_others mX41_otherCount mX41_named mX62_answers mX62_names mX62_from mX62_to mX62_n mX62_forms mX62_count mX62_large mX62_known mX85_first mX85_second mX85_codes A G nq nF FF qa ql qS qk kf lf rt na cf rf nf nQ sq sf ow) (e : ∀ i t, 0 ≤ t → t < qcLN nq nF i → i ≠ 2 → ai' (A i t) = ai (A i t)) (e2 : ∀ u i, 0 ≤ u → u < 3 → 0 ≤ i → i < na → ai' (A 2 u) i = ai (A 2 u) i) : qcR kd an (ai') al ar mX40_kinds mX40_lefts mX40_rights mX40_axioms mX40_classFacts mX40_roleFacts mX40_facts mX40_draft mX40_questions mX40_questionCount mX40_forbidden mX40_given mX41_first mX41_second mX41_names mX41_from mX41_to mX41_n mX41_codes mX41_least mX41_hasLeast mX41_others mX41_otherCount mX41_named mX62_answers mX62_names mX62_from mX62_to mX62_n mX62_forms mX62_count mX62_large mX62_known mX85_first mX85_second mX85_codes A G nq nF FF qa ql qS qk kf lf rt na cf rf nf nQ sq sf ow := by
  obtain ⟨⟨HL, q0, f0⟩, Fl, D, HF, HQ, HX, HC, HS⟩ := H
  refine ⟨⟨HL, q0, f0⟩, Fl, D, fun r r0 r1 => (HF r r0 r1).tr rfl rfl rfl rfl rfl rfl (e 13 r r0 r1 (by decide)), fun i i0 i1 => ⟨(HQ i i0 i1).1.tr rfl rfl rfl rfl rfl (e 10 _ (by omega) (show _ < 3 * nq by omega) (by decide)) (e 10 _ (by omega) (show _ < 3 * nq by omega) (by decide)) (e 10 _ (by omega) (show _ < 3 * nq by omega) (by decide)), (HQ i i0 i1).2⟩, ⟨HX.1, HX.2.1, fun i i0 i1 => ?_⟩, HC.tr rfl rfl rfl (e 3 0 (by decide) (show (0 : Int) < 1 by decide) (by decide)) (e 4 0 (by decide) (show (0 : Int) < 1 by decide) (by decide)), HS⟩
  rw [e2 0 i (by decide) (by decide) i0 i1, e2 1 i (by decide) (by decide) i0 i1, e2 2 i (by decide) (by decide) i0 i1]
  exact HX.2.2 i i0 i1
/-- one more axiom -/
theorem qcR.axm {ar' : Nat → Int → Option Nat} {ax' : Nat → Int} {sf' ow' : Int → Int} (H : qcR kd an ai al ar mX40_kinds mX40_lefts mX40_rights mX40_axioms mX40_classFacts mX40_roleFacts mX40_facts mX40_draft mX40_questions mX40_questionCount mX40_forbidden mX40_given mX41_first mX41_second mX41_names mX41_from mX41_to mX41_n mX41_codes mX41_least mX41_hasLeast mX41_others mX41_otherCount mX41_named mX62_answers mX62_names mX62_from mX62_to mX62_n mX62_forms mX62_count mX62_large mX62_known mX85_first mX85_second mX85_codes A G nq nF FF qa ql qS qk kf lf rt na cf rf nf nQ sq sf ow) (hn : na < 16) (C : qAc k a b) (e1 : ai (A 2 0) na = k) (e2 : ai (A 2 1) na = a) (e3 : ai (A 2 2) na = b) (eo : ∀ p, p ≠ A 7 0 → ar' p = ar p) (e7 : ∀ i, ¬ i = na → ar' (A 7 0) i = ar (A 7 0) i) (ex : ax' (A 0 0) = na + 1) (h1 : k < 2 → ar' (A 7 0) na = none) (h2 : 2 ≤ k → ar' (A 7 0) na = some (A 9 (sf' na)) ∧ (0 ≤ sf' na ∧ sf' na < nq) ∧ ow' (sf' na) = 100 + na) (ho : ∀ q, 0 ≤ q → q < nQ → ow' (sq q) = ow (sq q)) (hs : ∀ y, 0 ≤ y → y < na → 2 ≤ kf y → sf' y = sf y ∧ ow' (sf y) = ow (sf y)) : qcR kd an ai al (ar') mX40_kinds mX40_lefts mX40_rights (ax') mX40_classFacts mX40_roleFacts mX40_facts mX40_draft mX40_questions mX40_questionCount mX40_forbidden mX40_given mX41_first mX41_second mX41_names mX41_from mX41_to mX41_n mX41_codes mX41_least mX41_hasLeast mX41_others mX41_otherCount mX41_named mX62_answers mX62_names mX62_from mX62_to mX62_n mX62_forms mX62_count mX62_large mX62_known mX85_first mX85_second mX85_codes A G nq nF FF qa ql qS qk (updI kf na k) (updI lf na a) (updI rt na b) (na + 1) cf rf nf nQ sq sf' ow' := by
  obtain ⟨⟨HL, q0, f0⟩, Fl, D, HF, HQ, HX, HC, HS⟩ := H
  have oa : ∀ i t, i ≠ 7 → 0 ≤ t → t < qcLN nq nF i → ar' (A i t) = ar (A i t) := fun i t h t0 t1 => eo _ (HL.ne ⟨t0, t1⟩ ⟨by decide, show (0 : Int) < 1 by decide⟩ (Or.inl h))
  have n16 := HX.2.1.1
  refine ⟨⟨HL, q0, f0⟩, Fl, D, HF, fun i i0 i1 => ⟨(HQ i i0 i1).1, (HQ i i0 i1).2.1.tr rfl rfl rfl rfl (oa 11 i (by decide) i0 i1) (fun _ _ _ => ⟨rfl, rfl⟩) (Int.le_refl _), (HQ i i0 i1).2.2⟩, ⟨ex, ⟨by omega, fun i i0 i1 => ?_⟩, fun i i0 i1 => ?_⟩, HC, ⟨HS.1, fun q b0 b1 => ?_, fun y b0 b1 => ?_⟩⟩
  · by_cases w : i = na
    · rw [w, updI_s, updI_s, updI_s]; exact C
    · rw [updI_n w, updI_n w, updI_n w]; exact HX.2.1.2 i i0 (by omega)
  · by_cases w : i = na
    · rw [w, updI_s, updI_s, updI_s]; exact ⟨e1, e2, e3⟩
    · rw [updI_n w, updI_n w, updI_n w]; exact HX.2.2 i i0 (by omega)
  · rw [oa 6 0 (by decide) (by decide) (show (0 : Int) < 1 by decide), ho q b0 b1]; exact HS.2.1 q b0 b1
  · by_cases w : y = na
    · rw [w, updI_s]; exact ⟨h1, h2⟩
    · rw [updI_n w, e7 y w]
      refine ⟨(HS.2.2 y b0 (by omega)).1, fun h => ?_⟩
      obtain ⟨u1, u2⟩ := hs y b0 (by omega) h
      rw [u1, u2]
      exact (HS.2.2 y b0 (by omega)).2 h
theorem CQR_axiom {post : Int → (Nat → Nat) → (Nat → Nat) → (Nat → Int → Int) → (Nat → Int → Option Nat) → (Nat → Int) → (Nat → Int) → (Nat → Option Nat) → (Nat → Option Nat) → (Nat → Option Nat) → (Nat → Int) → (Nat → Option Nat) → (Nat → Int) → (Nat → Int) → (Nat → Int) → Prop} (Rm : qcRm kd an ai al ar mX40_kinds mX40_lefts mX40_rights mX40_axioms mX40_classFacts mX40_roleFacts mX40_facts mX40_draft mX40_questions mX40_questionCount mX40_forbidden mX40_given mX41_first mX41_second mX41_names mX41_from mX41_to mX41_n mX41_codes mX41_least mX41_hasLeast mX41_others mX41_otherCount mX41_named mX62_answers mX62_names mX62_from mX62_to mX62_n mX62_forms mX62_count mX62_large mX62_known mX85_first mX85_second mX85_codes x kf lf rt na cf rf nf nQ QA QL) (bC : 5 ≤ MC) (bS : 111 ≤ MS) (za : zR a) (zb : zR b) (h1 : ¬ qAc k a b → post (-1) kd an ai ar mX40_axioms mX62_answers mX62_names mX62_from mX62_to mX62_n mX62_forms mX62_count mX62_large mX62_known) (h2 : qAc k a b → na = 16 → post (-2) kd an ai ar mX40_axioms mX62_answers mX62_names mX62_from mX62_to mX62_n mX62_forms mX62_count mX62_large mX62_known)
  (h3 : qAc k a b → na < 16 → ∀ kd' an' ai' ar' ax' an9' ns' fs' ts' n9' fm' cn' lg' kn', qcRm (kd') (an') (ai') al (ar') mX40_kinds mX40_lefts mX40_rights (ax') mX40_classFacts mX40_roleFacts mX40_facts mX40_draft mX40_questions mX40_questionCount mX40_forbidden mX40_given mX41_first mX41_second mX41_names mX41_from mX41_to mX41_n mX41_codes mX41_least mX41_hasLeast mX41_others mX41_otherCount mX41_named (an9') (ns') (fs') (ts') (n9') (fm') (cn') (lg') (kn') mX85_first mX85_second mX85_codes x (updI kf na k) (updI lf na a) (updI rt na b) (na + 1) cf rf nf nQ QA QL → post na kd' an' ai' ar' ax' an9' ns' fs' ts' n9' fm' cn' lg' kn') : wpQR_X40_axiom MC MS post kd an ai ar mX40_kinds mX40_lefts mX40_rights mX40_axioms mX40_forbidden mX62_answers mX62_names mX62_from mX62_to mX62_n mX62_forms mX62_count mX62_large mX62_known x k a b := by
  obtain ⟨A, G, nq, nF, FF, qa, ql, qS, qk, sq, sf, ow, e0, H, K, hQ, hX⟩ := Rm
  subst e0
  have H0 := H
  obtain ⟨⟨HL, q0, f0⟩, Fl, D, HF, HQ, HX, HC, HS⟩ := H
  have ena := HX.1
  have n16 := HX.2.1.1
  have l2 : ∀ u, 0 ≤ u → u < 3 → kd (A 2 u) = 5 ∧ an (A 2 u) = 16 := fun u u0 u1 => ⟨(HL 2 u u0 (show u < 3 from u1)).2.1.1, (HL 2 u u0 (show u < 3 from u1)).2.2 (by decide)⟩
  have n2 : ∀ u v, 0 ≤ u → u < 3 → 0 ≤ v → v < 3 → u ≠ v → A 2 u ≠ A 2 v := fun u v u0 u1 v0 v1 h => HL.ne ⟨u0, show u < 3 from u1⟩ ⟨v0, show v < 3 from v1⟩ (Or.inr h)
  have l7 := HL 7 0 (by decide) (show (0 : Int) < 1 by decide)
  have k7 : kd (A 7 0) = 7 := l7.2.1.1
  have a7 : an (A 7 0) = 16 := l7.2.2 (by decide)
  have bad : ¬ qAc k a b → wQR_X40_axiom_61 MC MS post (A 0 0) k a b 0 kd an ai ar mX40_kinds mX40_lefts mX40_rights mX40_axioms mX40_forbidden mX62_answers mX62_names mX62_from mX62_to mX62_n mX62_forms mX62_count mX62_large mX62_known 0 0 := fun C => by
    unfold wQR_X40_axiom_61
    exact ⟨fun _ => ⟨by omega, by omega, h1 C⟩, fun w => absurd rfl w⟩
  have good : qAc k a b → wQR_X40_axiom_61 MC MS post (A 0 0) k a b 1 kd an ai ar mX40_kinds mX40_lefts mX40_rights mX40_axioms mX40_forbidden mX62_answers mX62_names mX62_from mX62_to mX62_n mX62_forms mX62_count mX62_large mX62_known 0 0 := fun C => by
    unfold wQR_X40_axiom_61
    rw [ena]
    refine ⟨fun w => absurd w (by decide), fun _ => ⟨fun w => ⟨by omega, by omega, h2 C w⟩, fun w => kOn_of Fl.1.1 ⟨(l2 0 (by decide) (by decide)).1, by rw [(l2 0 (by decide) (by decide)).2]; omega, fun ai1 e1 => kOn_of Fl.1.2.1 ⟨(l2 1 (by decide) (by decide)).1, by rw [(l2 1 (by decide) (by decide)).2]; omega, fun ai2 e2 => kOn_of Fl.1.2.2 ⟨(l2 2 (by decide) (by decide)).1, by rw [(l2 2 (by decide) (by decide)).2]; omega, fun ai3 e3 => ?_⟩⟩⟩⟩⟩
    have f0 : ai3 (A 2 0) = updI (ai (A 2 0)) na k := by
      rw [e3, va_up_ne _ _ (n2 0 2 (by decide) (by decide) (by decide) (by decide) (by decide)), e2, va_up_ne _ _ (n2 0 1 (by decide) (by decide) (by decide) (by decide) (by decide)), e1, va_up_self]
    have f1 : ai3 (A 2 1) = updI (ai (A 2 1)) na a := by
      rw [e3, va_up_ne _ _ (n2 1 2 (by decide) (by decide) (by decide) (by decide) (by decide)), e2, va_up_self, e1, va_up_ne _ _ (n2 1 0 (by decide) (by decide) (by decide) (by decide) (by decide))]
    have f2 : ai3 (A 2 2) = updI (ai (A 2 2)) na b := by
      rw [e3, va_up_self, e2, va_up_ne _ _ (n2 2 1 (by decide) (by decide) (by decide) (by decide) (by decide)), e1, va_up_ne _ _ (n2 2 0 (by decide) (by decide) (by decide) (by decide) (by decide))]
    have R3 : qcR kd an ai3 al ar mX40_kinds mX40_lefts mX40_rights mX40_axioms mX40_classFacts mX40_roleFacts mX40_facts mX40_draft mX40_questions mX40_questionCount mX40_forbidden mX40_given mX41_first mX41_second mX41_names mX41_from mX41_to mX41_n mX41_codes mX41_least mX41_hasLeast mX41_others mX41_otherCount mX41_named mX62_answers mX62_names mX62_from mX62_to mX62_n mX62_forms mX62_count mX62_large mX62_known mX85_first mX85_second mX85_codes A G nq nF FF qa ql qS qk kf lf rt na cf rf nf nQ sq sf ow := qcR.w2 H0 (fun i t t0 t1 h => by
      rw [e3, va_up_ne _ _ (HL.ne ⟨t0, t1⟩ ⟨by decide, show (2 : Int) < 3 by decide⟩ (Or.inl h)), e2, va_up_ne _ _ (HL.ne ⟨t0, t1⟩ ⟨by decide, show (1 : Int) < 3 by decide⟩ (Or.inl h)), e1, va_up_ne _ _ (HL.ne ⟨t0, t1⟩ ⟨by decide, show (0 : Int) < 3 by decide⟩ (Or.inl h))]) (fun u i u0 u1 i0 i1 => by
      have : u = 0 ∨ u = 1 ∨ u = 2 := by omega
      rcases this with e | e | e
      · rw [e, f0, updI_n (by omega)]
      · rw [e, f1, updI_n (by omega)]
      · rw [e, f2, updI_n (by omega)])
    have g0 : ai3 (A 2 0) na = k := by rw [f0, updI_s]
    have g1 : ai3 (A 2 1) na = a := by rw [f1, updI_s]
    have g2 : ai3 (A 2 2) na = b := by rw [f2, updI_s]
    have cls : 2 ≤ k → ∀ z, ((z = 0 ∧ k = 3) ∨ (z = 1 ∧ k = 2)) → wQR_X40_axiom_139 MC MS post (A 0 0) a b (mX40_forbidden (A 0 0)) na z kd an ai3 ar mX40_axioms mX62_answers mX62_names mX62_from mX62_to mX62_n mX62_forms mX62_count mX62_large mX62_known 0 0 := fun k2 z hz => by
      unfold wQR_X40_axiom_139
      refine ⟨MC, MS, ⟨by omega, by omega⟩, CQR_clash (k := k) R3 ?_ bC bS (fun kd' an' ai' ar' an9' ns' fs' ts' n9' fm' cn' lg' kn' A' G' sm R' f le => ?_)⟩
      · rcases hz with h | h
        · exact Or.inl ⟨h.1, h.2, C.2.2 (by omega)⟩
        · exact Or.inr ⟨h.1, h.2, C.2.1 (by omega)⟩
      · have l7' := le (A 7 0) (by rw [k7]; decide)
        have e70 : A' 7 0 = A 7 0 := sm 7 0 (by decide) (show (0 : Int) < 1 by decide)
        have e00 : A' 0 0 = A 0 0 := sm 0 0 (by decide) (show (0 : Int) < 1 by decide)
        have k9 : kd' (A' 9 nq) = 3 := (R'.1.1 9 nq q0 (show nq < nq + 1 by omega)).2.1.1
        rw [ena]
        refine kOn_of Fl.2.2.2.2.1 ⟨l7'.1.trans k7, by rw [l7'.2, a7]; omega, kOn_some ⟨k9, fun ar2 ea => ⟨by omega, fun v ev ax' eax => ⟨?_, by omega, by omega, ?_⟩⟩⟩⟩
        · rw [eax, va_up_self]; omega
        · rw [show ax' (A 0 0) - 1 = na by rw [eax, va_up_self]; omega]
          have nw : ∀ t, 0 ≤ t → t < nq → ¬ t = nq := fun t _ h => by omega
          have R4 := qcR.axm (ar' := ar2) (ax' := ax') (sf' := updI sf na nq) (ow' := updI ow nq (100 + na)) R' (by omega) C (by rw [sm 2 0 (by decide) (show (0 : Int) < 3 by decide), f 0 (by decide) (by decide)]; exact g0) (by rw [sm 2 1 (by decide) (show (1 : Int) < 3 by decide), f 1 (by decide) (by decide)]; exact g1) (by rw [sm 2 2 (by decide) (show (2 : Int) < 3 by decide), f 2 (by decide) (by decide)]; exact g2) (fun p h => by rw [ea, va_up_ne _ _ (by rw [← e70]; exact h)]) (fun i h => by rw [e70, ea, va_up_self, updI_n h]) (by rw [e00, eax, va_up_self, ev]) (fun h => by omega) (fun _ => ⟨by rw [e70, ea, va_up_self, updI_s, updI_s], by rw [updI_s]; omega, by rw [updI_s, updI_s]⟩) (fun q b0 b1 => by
            have c := (HS.2.1 q b0 b1).2.1
            rw [updI_n (nw _ c.1 c.2)]) (fun y b0 b1 h => by
            have c := ((HS.2.2 y b0 b1).2 h).2.1
            rw [updI_n (nw _ c.1 c.2), updI_n (by omega)]; exact ⟨rfl, rfl⟩)
          refine h3 C (by omega) kd' an' ai' ar2 ax' an9' ns' fs' ts' n9' fm' cn' lg' kn' ⟨A', G', nq + 1, nF, FF, _, _, _, _, sq, _, _, e00, R4, fun i i0 i1 => ?_, fun q b0 b1 => ?_, fun y b0 b1 h => ?_⟩
          · rw [updI_e]
            by_cases w : i = nq
            · rw [if_pos w]; exact ⟨by omega, fun q => by omega⟩
            · rw [if_neg w]
              have := (K i i0 (by omega)).1
              exact ⟨by omega, fun q => by omega⟩
          · have c := (HS.2.1 q b0 b1).2.1
            rw [updI_n (nw _ c.1 c.2), updI_n (nw _ c.1 c.2)]
            exact hQ q b0 b1
          · by_cases w : y = na
            · rw [w, updI_s, updI_s, updI_s, updI_s, updI_s, updI_s]; exact ⟨rfl, rfl⟩
            · rw [updI_n w] at h
              have c := ((HS.2.2 y b0 (by omega)).2 h).2.1
              rw [updI_n w, updI_n w, updI_n w, updI_n w, updI_n (nw _ c.1 c.2), updI_n (nw _ c.1 c.2)]
              exact hX y b0 (by omega) h
    have k4 := C.1
    refine ⟨fun k2 => ⟨fun ke => cls k2 1 (Or.inr ⟨rfl, ke⟩), fun ke => cls k2 0 (Or.inl ⟨rfl, by omega⟩)⟩, fun k2 => kOn_of Fl.2.2.2.2.1 ⟨k7, by rw [a7]; omega, fun ar2 ea => ⟨by omega, fun v ev ax' eax => ⟨?_, by omega, by omega, ?_⟩⟩⟩⟩
    · rw [eax, va_up_self]; omega
    · rw [show ax' (A 0 0) - 1 = na by rw [eax, va_up_self]; omega]
      have R4 := qcR.axm (ar' := ar2) (ax' := ax') (sf' := sf) (ow' := ow) R3 (by omega) C g0 g1 g2 (fun p h => by rw [ea, va_up_ne _ _ h]) (fun i h => by rw [ea, va_up_self, updI_n h]) (by rw [eax, va_up_self, ev]) (fun _ => by rw [ea, va_up_self, updI_s]) (fun h => by omega) (fun _ _ _ => rfl) (fun _ _ _ _ => ⟨rfl, rfl⟩)
      refine h3 C (by omega) _ _ _ _ _ _ _ _ _ _ _ _ _ _ ⟨A, G, nq, nF, FF, qa, ql, qS, qk, sq, sf, ow, rfl, R4, fun i i0 i1 => ?_, hQ, fun y b0 b1 h => ?_⟩
      · have := (K i i0 i1).1
        exact ⟨by omega, fun q => by omega⟩
      · by_cases w : y = na
        · rw [w, updI_s] at h; omega
        · rw [updI_n w] at h
          rw [updI_n w, updI_n w, updI_n w]
          exact hX y b0 (by omega) h
  unfold wpQR_X40_axiom
  refine ⟨⟨by omega, by omega⟩, CQR_isInB (fun hk => ⟨by omega, fun k2 => ⟨⟨by omega, by omega⟩, CQR_isSortB za (fun sa => ⟨⟨by omega, by omega⟩, CQR_isSortB zb (fun sb => good ⟨hk, fun _ => ⟨sa, sb⟩, fun w => by omega⟩) (fun w => bad (fun C => w (C.2.1 k2).2))⟩) (fun w => bad (fun C => w (C.2.1 k2).1))⟩, fun k2 => ⟨⟨by omega, by omega⟩, CQR_isInB (fun sa => ⟨⟨by omega, by omega⟩, CQR_isInB (fun sb => good ⟨hk, fun w => absurd w k2, fun _ => ⟨sa, sb⟩⟩) (fun w => bad (fun C => w (C.2.2 (by omega)).2))⟩) (fun w => bad (fun C => w (C.2.2 (by omega)).1))⟩⟩) (fun w => ⟨by omega, by omega, h1 (fun C => w C.1)⟩)⟩
end

/-! QlRewrite (room QR): facts -/
def qcSc (cf : Int → Int) (r w a v : Int) : Int → Int := if r = 0 then updI cf (12 * w + a) v else cf
def qcSr (rf : Int → Int) (r w a b v : Int) : Int → Int := if r = 0 then rf else updI rf (12 * (12 * w + a) + b) v
theorem qcNc {f : Int → Int} {k v : Int} {N : Nat} (hk : 0 ≤ k ∧ k < N) (hf : f k = 0 ∨ f k = 1) (h : (v = 1 ∧ ¬ f k = 1) ∨ (v = 0 ∧ f k = 1)) : cntI (fun i => updI f k v i = 1) N = cntI (fun i => f i = 1) N + (if v = 0 then -1 else 1) := by
  rcases h with ⟨h1, h2⟩ | ⟨h1, h2⟩
  · have := cntI_u1 (p := fun i => f i = 1) (q := fun i => updI f k v i = 1) (x0 := k) hk.1 h2 (by rw [updI_s]; exact h1) (fun x hx => by rw [updI_n hx]) N
    rw [this, if_pos hk.2, if_neg (by omega)]
  · have := cntI_u1 (p := fun i => updI f k v i = 1) (q := fun i => f i = 1) (x0 := k) hk.1 (by rw [updI_s]; omega) h2 (fun x hx => by rw [updI_n hx]) N
    rw [this, if_pos hk.2, if_pos h1]; omega
theorem qcFa_c {cf rf : Int → Int} {r w a b : Int} (C : qFc r w a b) : qcFa cf rf (qCc r w) a (if r = 0 then 0 else b) ↔ (if r = 0 then cf (12 * w + a) else rf (12 * (12 * w + a) + b)) = 1 := by
  unfold qcFa qCc
  have c0 := C.2.1
  have c1 := C.2.2
  by_cases z : r = 0
  · rw [if_pos z, if_pos z, if_pos z]
    refine ⟨fun h => ?_, fun h => ⟨C.1, Or.inl ⟨c0 z, rfl, h⟩⟩⟩
    rcases h.2 with h | h
    · exact h.2.2
    · have := c0 z; omega
  · rw [if_neg z, if_neg z, if_neg z, show 32 + w - 32 = w by omega]
    refine ⟨fun h => ?_, fun h => ⟨C.1, Or.inr ⟨?_, (c1 z).2, h⟩⟩⟩
    · rcases h.2 with h | h
      · have := c1 z; omega
      · exact h.2.2
    · have := c1 z; omega
section
variable {kd : Nat → Nat} {an : Nat → Nat} {ai : Nat → Int → Int} {al : Nat → Int → Int} {ar : Nat → Int → Option Nat} {mX40_kinds : Nat → Option Nat} {mX40_lefts : Nat → Option Nat} {mX40_rights : Nat → Option Nat} {mX40_axioms : Nat → Int} {mX40_classFacts : Nat → Option Nat} {mX40_roleFacts : Nat → Option Nat} {mX40_facts : Nat → Int} {mX40_draft : Nat → Option Nat} {mX40_questions : Nat → Option Nat} {mX40_questionCount : Nat → Int} {mX40_forbidden : Nat → Option Nat} {mX40_given : Nat → Option Nat} {mX41_first : Nat → Int} {mX41_second : Nat → Int} {mX41_names : Nat → Option Nat} {mX41_from : Nat → Option Nat} {mX41_to : Nat → Option Nat} {mX41_n : Nat → Int} {mX41_codes : Nat → Option Nat} {mX41_least : Nat → Option Nat} {mX41_hasLeast : Nat → Int} {mX41_others : Nat → Option Nat} {mX41_otherCount : Nat → Int} {mX41_named : Nat → Option Nat} {mX62_answers : Nat → Int} {mX62_names : Nat → Option Nat} {mX62_from : Nat → Option Nat} {mX62_to : Nat → Option Nat} {mX62_n : Nat → Int} {mX62_forms : Nat → Option Nat} {mX62_count : Nat → Int} {mX62_large : Nat → Int} {mX62_known : Nat → Int} {mX85_first : Nat → Int} {mX85_second : Nat → Int} {mX85_codes : Nat → Option Nat} {A : Nat → Int → Nat} {G : Nat → Nat × Int} {nq nF na nf nQ : Int} {FF : Int → qFo} {qa qk kf lf rt cf rf sq sf ow : Int → Int} {ql : Int → List qA} {qS : Int → qSS} {QA : Int → Int} {QL : Int → List qA} {x : Nat} {j n k v oc i a b c o f y r pl fl q w z : Int} {l : List qA} {S : qSS} {MC MS kc ks : Nat} {F : qFo} {t : qA}
theorem CQR_isFactB {P0 P1 : Prop} (h1 : qFc r w a b → P1) (h0 : ¬ qFc r w a b → P0) : wpQR_X40_isFact (fun r => (r = 0 → P0) ∧ (¬ r = 0 → P1)) r w a b := by
  have yes : qFc r w a b → ((1 : Int) = 0 → P0) ∧ (¬ (1 : Int) = 0 → P1) := fun C => ⟨fun z => absurd z (by decide), fun _ => h1 C⟩
  have no : ¬ qFc r w a b → ((0 : Int) = 0 → P0) ∧ (¬ (0 : Int) = 0 → P1) := fun C => ⟨fun _ => h0 C, fun z => absurd rfl z⟩
  unfold wpQR_X40_isFact
  exact CQR_isInB (fun ha => ⟨fun z => CQR_isInB (fun hw => yes ⟨ha, fun _ => hw, fun y => absurd z y⟩) (fun hw => no (fun C => hw (C.2.1 z))), fun z => CQR_isInB (fun hw => CQR_isInB (fun hb => yes ⟨ha, fun y => absurd y z, fun _ => ⟨hw, hb⟩⟩) (fun hb => no (fun C => hb (C.2.2 z).2))) (fun hw => no (fun C => hw (C.2.2 z).1))⟩) (fun ha => no (fun C => ha C.1))
theorem CQR_has {post : Int → Prop} (H : qcR kd an ai al ar mX40_kinds mX40_lefts mX40_rights mX40_axioms mX40_classFacts mX40_roleFacts mX40_facts mX40_draft mX40_questions mX40_questionCount mX40_forbidden mX40_given mX41_first mX41_second mX41_names mX41_from mX41_to mX41_n mX41_codes mX41_least mX41_hasLeast mX41_others mX41_otherCount mX41_named mX62_answers mX62_names mX62_from mX62_to mX62_n mX62_forms mX62_count mX62_large mX62_known mX85_first mX85_second mX85_codes A G nq nF FF qa ql qS qk kf lf rt na cf rf nf nQ sq sf ow) (C : qFc r w a b) (hp : ∀ v, (v = 0 ∨ v = 1) → (v = 1 ↔ qcFa cf rf (qCc r w) a (if r = 0 then 0 else b)) → post v) : wpQR_X40_has post kd an ai mX40_classFacts mX40_roleFacts (A 0 0) r w a b := by
  obtain ⟨⟨HL, q0, f0⟩, Fl, D, HF, HQ, HX, HC, HS⟩ := H
  have h3 := HL 3 0 (by decide) (show (0 : Int) < 1 by decide)
  have h4 := HL 4 0 (by decide) (show (0 : Int) < 1 by decide)
  have a3 : an (A 3 0) = 120 := h3.2.2 (by decide)
  have a4 : an (A 4 0) = 1152 := h4.2.2 (by decide)
  have k3 : kd (A 3 0) = 6 := h3.2.1.1
  have k4 : kd (A 4 0) = 6 := h4.2.1.1
  have e := qcFa_c (cf := cf) (rf := rf) C
  have c0 := C.1
  have c1 := C.2.1
  have c2 := C.2.2
  unfold wpQR_X40_has
  refine ⟨fun z => kOn_of Fl.2.1.1 ⟨k3, ?_, ?_, ?_⟩, fun z => kOn_of Fl.2.1.2 ⟨k4, ?_, ?_, ?_⟩⟩
  · have := c1 z
    rw [a3]; omega
  · have := c1 z
    omega
  · rw [HC.1.1]
    refine ⟨(HC.2.1 _).1, hp _ (HC.2.1 _).1 ?_⟩
    rw [e, if_pos z]
  · have := c2 z
    rw [a4]; omega
  · have := c2 z
    omega
  · rw [HC.1.2]
    refine ⟨(HC.2.1 _).2, hp _ (HC.2.1 _).2 ?_⟩
    rw [e, if_neg z]
theorem qcR.fc {ai' : Nat → Int → Int} {fc' : Nat → Int} {cf' rf' : Int → Int} {nf' : Int} (H : qcR kd an ai al ar mX40_kinds mX40_lefts mX40_rights mX40_axioms mX40_classFacts mX40_roleFacts mX40_facts mX40_draft mX40_questions mX40_questionCount mX40_forbidden mX40_given mX41_first mX41_second mX41_names mX41_from mX41_to mX41_n mX41_codes mX41_least mX41_hasLeast mX41_others mX41_otherCount mX41_named mX62_answers mX62_names mX62_from mX62_to mX62_n mX62_forms mX62_count mX62_large mX62_known mX85_first mX85_second mX85_codes A G nq nF FF qa ql qS qk kf lf rt na cf rf nf nQ sq sf ow) (eo : ∀ i t, 0 ≤ t → t < qcLN nq nF i → i ≠ 3 → i ≠ 4 → ai' (A i t) = ai (A i t)) (HC' : qcFc fc' ai' A cf' rf' nf') : qcR kd an (ai') al ar mX40_kinds mX40_lefts mX40_rights mX40_axioms mX40_classFacts mX40_roleFacts (fc') mX40_draft mX40_questions mX40_questionCount mX40_forbidden mX40_given mX41_first mX41_second mX41_names mX41_from mX41_to mX41_n mX41_codes mX41_least mX41_hasLeast mX41_others mX41_otherCount mX41_named mX62_answers mX62_names mX62_from mX62_to mX62_n mX62_forms mX62_count mX62_large mX62_known mX85_first mX85_second mX85_codes A G nq nF FF qa ql qS qk kf lf rt na cf' rf' nf' nQ sq sf ow := by
  obtain ⟨⟨HL, q0, f0⟩, Fl, D, HF, HQ, HX, HC, HS⟩ := H
  exact ⟨⟨HL, q0, f0⟩, Fl, D, fun r r0 r1 => (HF r r0 r1).tr rfl rfl rfl rfl rfl rfl (eo 13 r r0 r1 (by decide) (by decide)), fun i i0 i1 => ⟨(HQ i i0 i1).1.tr rfl rfl rfl rfl rfl (eo 10 _ (by omega) (show _ < 3 * nq by omega) (by decide) (by decide)) (eo 10 _ (by omega) (show _ < 3 * nq by omega) (by decide) (by decide)) (eo 10 _ (by omega) (show _ < 3 * nq by omega) (by decide) (by decide)), (HQ i i0 i1).2⟩, HX.tr rfl rfl rfl rfl (eo 2 0 (by decide) (show (0 : Int) < 3 by decide) (by decide) (by decide)) (eo 2 1 (by decide) (show (1 : Int) < 3 by decide) (by decide) (by decide)) (eo 2 2 (by decide) (show (2 : Int) < 3 by decide) (by decide) (by decide)), HC', HS⟩
theorem CQR_set {post : (Nat → Int → Int) → (Nat → Int) → Prop} (H : qcR kd an ai al ar mX40_kinds mX40_lefts mX40_rights mX40_axioms mX40_classFacts mX40_roleFacts mX40_facts mX40_draft mX40_questions mX40_questionCount mX40_forbidden mX40_given mX41_first mX41_second mX41_names mX41_from mX41_to mX41_n mX41_codes mX41_least mX41_hasLeast mX41_others mX41_otherCount mX41_named mX62_answers mX62_names mX62_from mX62_to mX62_n mX62_forms mX62_count mX62_large mX62_known mX85_first mX85_second mX85_codes A G nq nF FF qa ql qS qk kf lf rt na cf rf nf nQ sq sf ow) (C : qFc r w a b) (hv : (v = 1 ∧ ¬ qcFa cf rf (qCc r w) a (if r = 0 then 0 else b)) ∨ (v = 0 ∧ qcFa cf rf (qCc r w) a (if r = 0 then 0 else b))) (hp : ∀ ai' fc', qcR kd an (ai') al ar mX40_kinds mX40_lefts mX40_rights mX40_axioms mX40_classFacts mX40_roleFacts (fc') mX40_draft mX40_questions mX40_questionCount mX40_forbidden mX40_given mX41_first mX41_second mX41_names mX41_from mX41_to mX41_n mX41_codes mX41_least mX41_hasLeast mX41_others mX41_otherCount mX41_named mX62_answers mX62_names mX62_from mX62_to mX62_n mX62_forms mX62_count mX62_large mX62_known mX85_first mX85_second mX85_codes A G nq nF FF qa ql qS qk kf lf rt na (qcSc cf r w a v) (qcSr rf r w a b v) (nf + (if v = 0 then -1 else 1)) nQ sq sf ow → post ai' fc') : wpQR_X40_set post kd an ai mX40_classFacts mX40_roleFacts mX40_facts (A 0 0) r w a b v := by
  have H0 := H
  obtain ⟨⟨HL, q0, f0⟩, Fl, D, HF, HQ, HX, HC, HS⟩ := H
  have h3 := HL 3 0 (by decide) (show (0 : Int) < 1 by decide)
  have h4 := HL 4 0 (by decide) (show (0 : Int) < 1 by decide)
  have a3 : an (A 3 0) = 120 := h3.2.2 (by decide)
  have a4 : an (A 4 0) = 1152 := h4.2.2 (by decide)
  have k3 : kd (A 3 0) = 6 := h3.2.1.1
  have k4 : kd (A 4 0) = 6 := h4.2.1.1
  have n34 : A 3 0 ≠ A 4 0 := HL.ne ⟨by decide, show (0 : Int) < 1 by decide⟩ ⟨by decide, show (0 : Int) < 1 by decide⟩ (Or.inl (by decide))
  have e := qcFa_c (cf := cf) (rf := rf) C
  rw [e] at hv
  have c0 := C.1
  have c1 := C.2.1
  have c2 := C.2.2
  have b1 := cntI_b (fun i => cf i = 1) 120
  have b2 := cntI_b (fun i => rf i = 1) 1152
  have en := HC.2.2.2
  have em := HC.2.2.1
  have bn : 0 ≤ nf ∧ nf ≤ 1272 := by omega
  have v01 : v = 0 ∨ v = 1 := by omega
  unfold wpQR_X40_set
  rw [em]
  have s0 : r = 0 → ∀ ai' fc' u, ai' = va_up ai (A 3 0) (updI (ai (A 3 0)) (12 * w + a) v) → u = nf + (if v = 0 then -1 else 1) → fc' = va_up mX40_facts (A 0 0) u → post ai' fc' := fun z ai' fc' u ea eu ef => by
    have k := c1 z
    refine hp ai' fc' (qcR.fc H0 (fun i t t0 t1 i3 i4 => by rw [ea, va_up_ne _ _ (HL.ne ⟨t0, t1⟩ ⟨by decide, show (0 : Int) < 1 by decide⟩ (Or.inl i3))]) ⟨⟨?_, ?_⟩, fun i => ⟨?_, ?_⟩, ?_, ?_⟩)
    · rw [ea, va_up_self, HC.1.1]
      unfold qcSc
      rw [if_pos z]
    · rw [ea, va_up_ne _ _ (Ne.symm n34), HC.1.2]
      unfold qcSr
      rw [if_pos z]
    · unfold qcSc
      rw [if_pos z, updI_e]
      by_cases y : i = 12 * w + a
      · rw [if_pos y]; exact v01
      · rw [if_neg y]; exact (HC.2.1 i).1
    · unfold qcSr
      rw [if_pos z]; exact (HC.2.1 i).2
    · rw [ef, va_up_self, eu]
    · unfold qcSc qcSr
      rw [if_pos z, if_pos z, qcNc (N := 120) (by omega) (HC.2.1 _).1 (by rw [if_pos z] at hv; exact hv)]
      omega
  have s1 : ¬ r = 0 → ∀ ai' fc' u, ai' = va_up ai (A 4 0) (updI (ai (A 4 0)) (12 * (12 * w + a) + b) v) → u = nf + (if v = 0 then -1 else 1) → fc' = va_up mX40_facts (A 0 0) u → post ai' fc' := fun z ai' fc' u ea eu ef => by
    have k := c2 z
    refine hp ai' fc' (qcR.fc H0 (fun i t t0 t1 i3 i4 => by rw [ea, va_up_ne _ _ (HL.ne ⟨t0, t1⟩ ⟨by decide, show (0 : Int) < 1 by decide⟩ (Or.inl i4))]) ⟨⟨?_, ?_⟩, fun i => ⟨?_, ?_⟩, ?_, ?_⟩)
    · rw [ea, va_up_ne _ _ n34, HC.1.1]
      unfold qcSc
      rw [if_neg z]
    · rw [ea, va_up_self, HC.1.2]
      unfold qcSr
      rw [if_neg z]
    · unfold qcSc
      rw [if_neg z]; exact (HC.2.1 i).1
    · unfold qcSr
      rw [if_neg z, updI_e]
      by_cases y : i = 12 * (12 * w + a) + b
      · rw [if_pos y]; exact v01
      · rw [if_neg y]; exact (HC.2.1 i).2
    · rw [ef, va_up_self, eu]
    · unfold qcSc qcSr
      rw [if_neg z, if_neg z, qcNc (N := 1152) (by omega) (HC.2.1 _).2 (by rw [if_neg z] at hv; exact hv)]
      omega
  refine ⟨fun z => kOn_of Fl.2.1.1 ⟨k3, ?_, ?_, v01, fun ai1 e1 => ⟨fun v0 => ⟨by omega, fun u eu fc' ef => s0 z ai1 fc' u e1 (by rw [eu, if_pos v0]) ef⟩, fun v0 => ⟨by omega, fun u eu fc' ef => s0 z ai1 fc' u e1 (by rw [eu, if_neg v0]) ef⟩⟩⟩, fun z => kOn_of Fl.2.1.2 ⟨k4, ?_, ?_, v01, fun ai1 e1 => ⟨fun v0 => ⟨by omega, fun u eu fc' ef => s1 z ai1 fc' u e1 (by rw [eu, if_pos v0]) ef⟩, fun v0 => ⟨by omega, fun u eu fc' ef => s1 z ai1 fc' u e1 (by rw [eu, if_neg v0]) ef⟩⟩⟩⟩
  · have := c1 z
    rw [a3]; omega
  · have := c1 z
    omega
  · have := c2 z
    rw [a4]; omega
  · have := c2 z
    omega
theorem CQR_fact {post : Int → (Nat → Int → Int) → (Nat → Int) → Prop} (Rm : qcRm kd an ai al ar mX40_kinds mX40_lefts mX40_rights mX40_axioms mX40_classFacts mX40_roleFacts mX40_facts mX40_draft mX40_questions mX40_questionCount mX40_forbidden mX40_given mX41_first mX41_second mX41_names mX41_from mX41_to mX41_n mX41_codes mX41_least mX41_hasLeast mX41_others mX41_otherCount mX41_named mX62_answers mX62_names mX62_from mX62_to mX62_n mX62_forms mX62_count mX62_large mX62_known mX85_first mX85_second mX85_codes x kf lf rt na cf rf nf nQ QA QL) (h1 : ¬ qFc r w a b → post (-1) ai mX40_facts) (h2 : qFc r w a b → qcFa cf rf (qCc r w) a (if r = 0 then 0 else b) → post 0 ai mX40_facts) (h3 : qFc r w a b → ¬ qcFa cf rf (qCc r w) a (if r = 0 then 0 else b) → nf = 60 → post (-2) ai mX40_facts)
  (h4 : qFc r w a b → ¬ qcFa cf rf (qCc r w) a (if r = 0 then 0 else b) → ¬ nf = 60 → ∀ ai' fc', qcRm kd an (ai') al ar mX40_kinds mX40_lefts mX40_rights mX40_axioms mX40_classFacts mX40_roleFacts (fc') mX40_draft mX40_questions mX40_questionCount mX40_forbidden mX40_given mX41_first mX41_second mX41_names mX41_from mX41_to mX41_n mX41_codes mX41_least mX41_hasLeast mX41_others mX41_otherCount mX41_named mX62_answers mX62_names mX62_from mX62_to mX62_n mX62_forms mX62_count mX62_large mX62_known mX85_first mX85_second mX85_codes x kf lf rt na (qcSc cf r w a 1) (qcSr rf r w a b 1) (nf + 1) nQ QA QL → post 1 ai' fc') : wpQR_X40_fact post kd an ai mX40_classFacts mX40_roleFacts mX40_facts x r w a b := by
  obtain ⟨A, G, nq, nF, FF, qa, ql, qS, qk, sq, sf, ow, e0, H, K, hQ, hX⟩ := Rm
  subst e0
  have em := H.2.2.2.2.2.2.1.2.2.1
  unfold wpQR_X40_fact
  rw [em]
  refine CQR_isFactB (fun C => CQR_has H C (fun v hv hi => ⟨fun v0 => ⟨fun n6 => h3 C (fun f => by have := hi.2 f; omega) n6, fun n6 => CQR_set H C (Or.inl ⟨rfl, fun f => by have := hi.2 f; omega⟩) (fun ai' fc' R' => h4 C (fun f => by have := hi.2 f; omega) n6 ai' fc' ⟨A, G, nq, nF, FF, qa, ql, qS, qk, sq, sf, ow, rfl, R', K, hQ, hX⟩)⟩, fun v0 => h2 C (hi.1 (by omega))⟩)) (fun C => h1 C)
theorem CQR_forget {post : Int → (Nat → Int → Int) → (Nat → Int) → Prop} (Rm : qcRm kd an ai al ar mX40_kinds mX40_lefts mX40_rights mX40_axioms mX40_classFacts mX40_roleFacts mX40_facts mX40_draft mX40_questions mX40_questionCount mX40_forbidden mX40_given mX41_first mX41_second mX41_names mX41_from mX41_to mX41_n mX41_codes mX41_least mX41_hasLeast mX41_others mX41_otherCount mX41_named mX62_answers mX62_names mX62_from mX62_to mX62_n mX62_forms mX62_count mX62_large mX62_known mX85_first mX85_second mX85_codes x kf lf rt na cf rf nf nQ QA QL) (h1 : ¬ qFc r w a b → post (-1) ai mX40_facts) (h2 : qFc r w a b → ¬ qcFa cf rf (qCc r w) a (if r = 0 then 0 else b) → post 0 ai mX40_facts)
  (h4 : qFc r w a b → qcFa cf rf (qCc r w) a (if r = 0 then 0 else b) → ∀ ai' fc', qcRm kd an (ai') al ar mX40_kinds mX40_lefts mX40_rights mX40_axioms mX40_classFacts mX40_roleFacts (fc') mX40_draft mX40_questions mX40_questionCount mX40_forbidden mX40_given mX41_first mX41_second mX41_names mX41_from mX41_to mX41_n mX41_codes mX41_least mX41_hasLeast mX41_others mX41_otherCount mX41_named mX62_answers mX62_names mX62_from mX62_to mX62_n mX62_forms mX62_count mX62_large mX62_known mX85_first mX85_second mX85_codes x kf lf rt na (qcSc cf r w a 0) (qcSr rf r w a b 0) (nf - 1) nQ QA QL → post 1 ai' fc') : wpQR_X40_forget post kd an ai mX40_classFacts mX40_roleFacts mX40_facts x r w a b := by
  obtain ⟨A, G, nq, nF, FF, qa, ql, qS, qk, sq, sf, ow, e0, H, K, hQ, hX⟩ := Rm
  subst e0
  unfold wpQR_X40_forget
  exact CQR_isFactB (fun C => CQR_has H C (fun v hv hi => ⟨fun v0 => h2 C (fun f => by have := hi.2 f; omega), fun v0 => CQR_set H C (Or.inr ⟨rfl, hi.1 (by omega)⟩) (fun ai' fc' R' => h4 C (hi.1 (by omega)) ai' fc' ⟨A, G, nq, nF, FF, qa, ql, qS, qk, sq, sf, ow, rfl, R', K, hQ, hX⟩)⟩)) (fun C => h1 C)
end

/-! QlRewrite (room QR): its constructor -/
theorem Lab.perm {K L kd an : Nat → Nat} {A : Nat → Int → Nat} {g : Nat → Nat × Int} {N : Nat → Int} (H : Lab K L kd an A g N) (i0 : Nat) (p r : Int → Int) (h : ∀ j, 0 ≤ j → j < N i0 → 0 ≤ p j ∧ p j < N i0 ∧ r (p j) = j) : Lab K L kd an (fun i j => if i = i0 then A i (p j) else A i j) (fun q => if (g q).1 = i0 then (i0, r (g q).2) else g q) N := fun i j h0 h1 => by
  by_cases z : i = i0
  · subst z
    obtain ⟨p0, p1, p2⟩ := h j h0 h1
    obtain ⟨a, b, c⟩ := H i (p j) p0 p1
    dsimp only
    rw [if_pos rfl, a]
    dsimp only
    rw [if_pos rfl, p2]
    exact ⟨rfl, b, c⟩
  · obtain ⟨a, b, c⟩ := H i j h0 h1
    dsimp only
    rw [if_neg z, a]
    dsimp only
    rw [if_neg z]
    exact ⟨rfl, b, c⟩
theorem Lab.cgQ {K L kd an : Nat → Nat} {A : Nat → Int → Nat} {g : Nat → Nat × Int} {N N' : Nat → Int} (H : Lab K L kd an A g N) (h : ∀ i j, 0 ≤ j → j < N' i → j < N i) : Lab K L kd an A g N' := fun i j h0 h1 => H i j h0 (h i j h0 h1)
def qcPi (j : Int) : Int := if j = 3 then 5 else if j = 4 then 3 else if j = 5 then 4 else j
def qcRho (j : Int) : Int := if j = 5 then 3 else if j = 3 then 4 else if j = 4 then 5 else j
theorem qcPi_r : ∀ j : Int, 0 ≤ j → j < 7 → 0 ≤ qcPi j ∧ qcPi j < 7 ∧ qcRho (qcPi j) = j := fun j h0 h1 => by
  have : j = 0 ∨ j = 1 ∨ j = 2 ∨ j = 3 ∨ j = 4 ∨ j = 5 ∨ j = 6 := by omega
  rcases this with rfl | rfl | rfl | rfl | rfl | rfl | rfl <;> decide
theorem qcLab0 {kd an : Nat → Nat} {x q1 q2 q3 q4 q5 q6 q7 q8 q9 qa qb qc qd qe qf qg : Nat} (hx : kd x = 1) (hq1 : kd q1 = 0) (hq2 : (va_up kd q1 5) q2 = 0) (hq3 : (va_up (va_up kd q1 5) q2 5) q3 = 0) (hq4 : (va_up (va_up (va_up kd q1 5) q2 5) q3 5) q4 = 0) (hq5 : (va_up (va_up (va_up (va_up kd q1 5) q2 5) q3 5) q4 6) q5 = 0) (hq6 : (va_up (va_up (va_up (va_up (va_up kd q1 5) q2 5) q3 5) q4 6) q5 6) q6 = 0) (hq7 : (va_up (va_up (va_up (va_up (va_up (va_up kd q1 5) q2 5) q3 5) q4 6) q5 6) q6 2) q7 = 0) (hq8 : (va_up (va_up (va_up (va_up (va_up (va_up (va_up kd q1 5) q2 5) q3 5) q4 6) q5 6) q6 2) q7 5) q8 = 0) (hq9 : (va_up (va_up (va_up (va_up (va_up (va_up (va_up (va_up kd q1 5) q2 5) q3 5) q4 6) q5 6) q6 2) q7 5) q8 5) q9 = 0) (hqa : (va_up (va_up (va_up (va_up (va_up (va_up (va_up (va_up (va_up kd q1 5) q2 5) q3 5) q4 6) q5 6) q6 2) q7 5) q8 5) q9 5) qa = 0) (hqb : (va_up (va_up (va_up (va_up (va_up (va_up (va_up (va_up (va_up (va_up kd q1 5) q2 5) q3 5) q4 6) q5 6) q6 2) q7 5) q8 5) q9 5) qa 5) qb = 0) (hqc : (va_up (va_up (va_up (va_up (va_up (va_up (va_up (va_up (va_up (va_up (va_up kd q1 5) q2 5) q3 5) q4 6) q5 6) q6 2) q7 5) q8 5) q9 5) qa 5) qb 5) qc = 0) (hqd : (va_up (va_up (va_up (va_up (va_up (va_up (va_up (va_up (va_up (va_up (va_up (va_up kd q1 5) q2 5) q3 5) q4 6) q5 6) q6 2) q7 5) q8 5) q9 5) qa 5) qb 5) qc 5) qd = 0) (hqe : (va_up (va_up (va_up (va_up (va_up (va_up (va_up (va_up (va_up (va_up (va_up (va_up (va_up kd q1 5) q2 5) q3 5) q4 6) q5 6) q6 2) q7 5) q8 5) q9 5) qa 5) qb 5) qc 5) qd 5) qe = 0) (hqf : (va_up (va_up (va_up (va_up (va_up (va_up (va_up (va_up (va_up (va_up (va_up (va_up (va_up (va_up kd q1 5) q2 5) q3 5) q4 6) q5 6) q6 2) q7 5) q8 5) q9 5) qa 5) qb 5) qc 5) qd 5) qe 7) qf = 0) (hqg : (va_up (va_up (va_up (va_up (va_up (va_up (va_up (va_up (va_up (va_up (va_up (va_up (va_up (va_up (va_up kd q1 5) q2 5) q3 5) q4 6) q5 6) q6 2) q7 5) q8 5) q9 5) qa 5) qb 5) qc 5) qd 5) qe 7) qf 7) qg = 0) : ∃ A G, Lab qcLK qcLL (va_up (va_up (va_up (va_up (va_up (va_up (va_up (va_up (va_up (va_up (va_up (va_up (va_up (va_up (va_up (va_up kd q1 5) q2 5) q3 5) q4 6) q5 6) q6 2) q7 5) q8 5) q9 5) qa 5) qb 5) qc 5) qd 5) qe 7) qf 7) qg 5) (va_up (va_up (va_up (va_up (va_up (va_up (va_up (va_up (va_up (va_up (va_up (va_up (va_up (va_up (va_up an q1 16) q2 16) q3 16) q4 120) q5 1152) q7 4) q8 4) q9 4) qa 4) qb 4) qc 8) qd 8) qe 6) qf 16) qg 6) A G (qcLN 0 0) ∧ A 0 0 = x ∧ A 2 0 = q1 ∧ A 2 1 = q2 ∧ A 2 2 = q3 ∧ A 3 0 = q4 ∧ A 4 0 = q5 ∧ A 1 0 = q6 ∧ A 5 0 = q7 ∧ A 5 1 = q8 ∧ A 5 2 = q9 ∧ A 5 4 = qa ∧ A 5 5 = qb ∧ A 5 3 = qc ∧ A 5 6 = qd ∧ A 6 0 = qe ∧ A 7 0 = qf ∧ A 8 0 = qg := by
  have H0 : Lab qcLK qcLL kd an (fun _ _ => x) (fun _ => (0, 0)) (fun i => if i = 0 then 1 else 0) := fun i j h0 h1 => by
    by_cases z : i = 0
    · subst z
      have h1' : j < 1 := h1
      have : j = 0 := by omega
      subst this
      exact ⟨rfl, ⟨hx, by decide⟩, fun w => absurd rfl w⟩
    · have h1' : j < (if i = 0 then 1 else 0) := h1
      rw [if_neg z] at h1'; omega
  have H1 : Lab qcLK qcLL (va_up kd q1 5) (va_up an q1 16) _ _ _ := Lab.new H0 hq1 2 (by decide) (by decide) (fun b hb => va_up_ne _ _ hb) (fun _ => va_up_self _ _ _)
  have H2 : Lab qcLK qcLL (va_up (va_up kd q1 5) q2 5) (va_up (va_up an q1 16) q2 16) _ _ _ := Lab.new H1 hq2 2 (by decide) (by decide) (fun b hb => va_up_ne _ _ hb) (fun _ => va_up_self _ _ _)
  have H3 : Lab qcLK qcLL (va_up (va_up (va_up kd q1 5) q2 5) q3 5) (va_up (va_up (va_up an q1 16) q2 16) q3 16) _ _ _ := Lab.new H2 hq3 2 (by decide) (by decide) (fun b hb => va_up_ne _ _ hb) (fun _ => va_up_self _ _ _)
  have H4 : Lab qcLK qcLL (va_up (va_up (va_up (va_up kd q1 5) q2 5) q3 5) q4 6) (va_up (va_up (va_up (va_up an q1 16) q2 16) q3 16) q4 120) _ _ _ := Lab.new H3 hq4 3 (by decide) (by decide) (fun b hb => va_up_ne _ _ hb) (fun _ => va_up_self _ _ _)
  have H5 : Lab qcLK qcLL (va_up (va_up (va_up (va_up (va_up kd q1 5) q2 5) q3 5) q4 6) q5 6) (va_up (va_up (va_up (va_up (va_up an q1 16) q2 16) q3 16) q4 120) q5 1152) _ _ _ := Lab.new H4 hq5 4 (by decide) (by decide) (fun b hb => va_up_ne _ _ hb) (fun _ => va_up_self _ _ _)
  have H6 : Lab qcLK qcLL (va_up (va_up (va_up (va_up (va_up (va_up kd q1 5) q2 5) q3 5) q4 6) q5 6) q6 2) (va_up (va_up (va_up (va_up (va_up an q1 16) q2 16) q3 16) q4 120) q5 1152) _ _ _ := Lab.new H5 hq6 1 (by decide) (by decide) (fun _ _ => rfl) (fun w => absurd rfl w)
  have H7 : Lab qcLK qcLL (va_up (va_up (va_up (va_up (va_up (va_up (va_up kd q1 5) q2 5) q3 5) q4 6) q5 6) q6 2) q7 5) (va_up (va_up (va_up (va_up (va_up (va_up an q1 16) q2 16) q3 16) q4 120) q5 1152) q7 4) _ _ _ := Lab.new H6 hq7 5 (by decide) (by decide) (fun b hb => va_up_ne _ _ hb) (fun w => absurd rfl w)
  have H8 : Lab qcLK qcLL (va_up (va_up (va_up (va_up (va_up (va_up (va_up (va_up kd q1 5) q2 5) q3 5) q4 6) q5 6) q6 2) q7 5) q8 5) (va_up (va_up (va_up (va_up (va_up (va_up (va_up an q1 16) q2 16) q3 16) q4 120) q5 1152) q7 4) q8 4) _ _ _ := Lab.new H7 hq8 5 (by decide) (by decide) (fun b hb => va_up_ne _ _ hb) (fun w => absurd rfl w)
  have H9 : Lab qcLK qcLL (va_up (va_up (va_up (va_up (va_up (va_up (va_up (va_up (va_up kd q1 5) q2 5) q3 5) q4 6) q5 6) q6 2) q7 5) q8 5) q9 5) (va_up (va_up (va_up (va_up (va_up (va_up (va_up (va_up an q1 16) q2 16) q3 16) q4 120) q5 1152) q7 4) q8 4) q9 4) _ _ _ := Lab.new H8 hq9 5 (by decide) (by decide) (fun b hb => va_up_ne _ _ hb) (fun w => absurd rfl w)
  have H10 : Lab qcLK qcLL (va_up (va_up (va_up (va_up (va_up (va_up (va_up (va_up (va_up (va_up kd q1 5) q2 5) q3 5) q4 6) q5 6) q6 2) q7 5) q8 5) q9 5) qa 5) (va_up (va_up (va_up (va_up (va_up (va_up (va_up (va_up (va_up an q1 16) q2 16) q3 16) q4 120) q5 1152) q7 4) q8 4) q9 4) qa 4) _ _ _ := Lab.new H9 hqa 5 (by decide) (by decide) (fun b hb => va_up_ne _ _ hb) (fun w => absurd rfl w)
  have H11 : Lab qcLK qcLL (va_up (va_up (va_up (va_up (va_up (va_up (va_up (va_up (va_up (va_up (va_up kd q1 5) q2 5) q3 5) q4 6) q5 6) q6 2) q7 5) q8 5) q9 5) qa 5) qb 5) (va_up (va_up (va_up (va_up (va_up (va_up (va_up (va_up (va_up (va_up an q1 16) q2 16) q3 16) q4 120) q5 1152) q7 4) q8 4) q9 4) qa 4) qb 4) _ _ _ := Lab.new H10 hqb 5 (by decide) (by decide) (fun b hb => va_up_ne _ _ hb) (fun w => absurd rfl w)
  have H12 : Lab qcLK qcLL (va_up (va_up (va_up (va_up (va_up (va_up (va_up (va_up (va_up (va_up (va_up (va_up kd q1 5) q2 5) q3 5) q4 6) q5 6) q6 2) q7 5) q8 5) q9 5) qa 5) qb 5) qc 5) (va_up (va_up (va_up (va_up (va_up (va_up (va_up (va_up (va_up (va_up (va_up an q1 16) q2 16) q3 16) q4 120) q5 1152) q7 4) q8 4) q9 4) qa 4) qb 4) qc 8) _ _ _ := Lab.new H11 hqc 5 (by decide) (by decide) (fun b hb => va_up_ne _ _ hb) (fun w => absurd rfl w)
  have H13 : Lab qcLK qcLL (va_up (va_up (va_up (va_up (va_up (va_up (va_up (va_up (va_up (va_up (va_up (va_up (va_up kd q1 5) q2 5) q3 5) q4 6) q5 6) q6 2) q7 5) q8 5) q9 5) qa 5) qb 5) qc 5) qd 5) (va_up (va_up (va_up (va_up (va_up (va_up (va_up (va_up (va_up (va_up (va_up (va_up an q1 16) q2 16) q3 16) q4 120) q5 1152) q7 4) q8 4) q9 4) qa 4) qb 4) qc 8) qd 8) _ _ _ := Lab.new H12 hqd 5 (by decide) (by decide) (fun b hb => va_up_ne _ _ hb) (fun w => absurd rfl w)
  have H14 : Lab qcLK qcLL (va_up (va_up (va_up (va_up (va_up (va_up (va_up (va_up (va_up (va_up (va_up (va_up (va_up (va_up kd q1 5) q2 5) q3 5) q4 6) q5 6) q6 2) q7 5) q8 5) q9 5) qa 5) qb 5) qc 5) qd 5) qe 7) (va_up (va_up (va_up (va_up (va_up (va_up (va_up (va_up (va_up (va_up (va_up (va_up (va_up an q1 16) q2 16) q3 16) q4 120) q5 1152) q7 4) q8 4) q9 4) qa 4) qb 4) qc 8) qd 8) qe 6) _ _ _ := Lab.new H13 hqe 6 (by decide) (by decide) (fun b hb => va_up_ne _ _ hb) (fun _ => va_up_self _ _ _)
  have H15 : Lab qcLK qcLL (va_up (va_up (va_up (va_up (va_up (va_up (va_up (va_up (va_up (va_up (va_up (va_up (va_up (va_up (va_up kd q1 5) q2 5) q3 5) q4 6) q5 6) q6 2) q7 5) q8 5) q9 5) qa 5) qb 5) qc 5) qd 5) qe 7) qf 7) (va_up (va_up (va_up (va_up (va_up (va_up (va_up (va_up (va_up (va_up (va_up (va_up (va_up (va_up an q1 16) q2 16) q3 16) q4 120) q5 1152) q7 4) q8 4) q9 4) qa 4) qb 4) qc 8) qd 8) qe 6) qf 16) _ _ _ := Lab.new H14 hqf 7 (by decide) (by decide) (fun b hb => va_up_ne _ _ hb) (fun _ => va_up_self _ _ _)
  have H16 : Lab qcLK qcLL (va_up (va_up (va_up (va_up (va_up (va_up (va_up (va_up (va_up (va_up (va_up (va_up (va_up (va_up (va_up (va_up kd q1 5) q2 5) q3 5) q4 6) q5 6) q6 2) q7 5) q8 5) q9 5) qa 5) qb 5) qc 5) qd 5) qe 7) qf 7) qg 5) (va_up (va_up (va_up (va_up (va_up (va_up (va_up (va_up (va_up (va_up (va_up (va_up (va_up (va_up (va_up an q1 16) q2 16) q3 16) q4 120) q5 1152) q7 4) q8 4) q9 4) qa 4) qb 4) qc 8) qd 8) qe 6) qf 16) qg 6) _ _ _ := Lab.new H15 hqg 8 (by decide) (by decide) (fun b hb => va_up_ne _ _ hb) (fun _ => va_up_self _ _ _)
  have HH := Lab.cgQ (N' := qcLN 0 0) H16 (fun i j h0 h1 => by
    match i with
    | 0 => exact h1
    | 1 => exact h1
    | 2 => exact h1
    | 3 => exact h1
    | 4 => exact h1
    | 5 => exact h1
    | 6 => exact h1
    | 7 => exact h1
    | 8 => exact h1
    | 9 => exact absurd (show j < 0 from h1) (by omega)
    | 10 => exact absurd (show j < 3 * 0 from h1) (by omega)
    | 11 => exact absurd (show j < 0 from h1) (by omega)
    | 12 => exact absurd (show j < 0 from h1) (by omega)
    | 13 => exact absurd (show j < 0 from h1) (by omega)
    | i + 14 => exact absurd (show j < 0 from h1) (by omega))
  exact ⟨_, _, Lab.perm HH 5 qcPi qcRho qcPi_r, rfl, rfl, rfl, rfl, rfl, rfl, rfl, rfl, rfl, rfl, rfl, rfl, rfl, rfl, rfl, rfl, rfl⟩
section
variable {kd : Nat → Nat} {an : Nat → Nat} {ai : Nat → Int → Int} {al : Nat → Int → Int} {ar : Nat → Int → Option Nat} {mX40_kinds : Nat → Option Nat} {mX40_lefts : Nat → Option Nat} {mX40_rights : Nat → Option Nat} {mX40_axioms : Nat → Int} {mX40_classFacts : Nat → Option Nat} {mX40_roleFacts : Nat → Option Nat} {mX40_facts : Nat → Int} {mX40_draft : Nat → Option Nat} {mX40_questions : Nat → Option Nat} {mX40_questionCount : Nat → Int} {mX40_forbidden : Nat → Option Nat} {mX40_given : Nat → Option Nat} {mX41_first : Nat → Int} {mX41_second : Nat → Int} {mX41_names : Nat → Option Nat} {mX41_from : Nat → Option Nat} {mX41_to : Nat → Option Nat} {mX41_n : Nat → Int} {mX41_codes : Nat → Option Nat} {mX41_least : Nat → Option Nat} {mX41_hasLeast : Nat → Int} {mX41_others : Nat → Option Nat} {mX41_otherCount : Nat → Int} {mX41_named : Nat → Option Nat} {mX62_answers : Nat → Int} {mX62_names : Nat → Option Nat} {mX62_from : Nat → Option Nat} {mX62_to : Nat → Option Nat} {mX62_n : Nat → Int} {mX62_forms : Nat → Option Nat} {mX62_count : Nat → Int} {mX62_large : Nat → Int} {mX62_known : Nat → Int} {mX85_first : Nat → Int} {mX85_second : Nat → Int} {mX85_codes : Nat → Option Nat} {A : Nat → Int → Nat} {G : Nat → Nat × Int} {nq nF na nf nQ : Int} {FF : Int → qFo} {qa qk kf lf rt cf rf sq sf ow : Int → Int} {ql : Int → List qA} {qS : Int → qSS} {QA : Int → Int} {QL : Int → List qA} {x : Nat} {MC MS : Nat}
theorem CQR_init {post : (Nat → Nat) → (Nat → Nat) → (Nat → Int → Int) → (Nat → Int → Option Nat) → (Nat → Option Nat) → (Nat → Option Nat) → (Nat → Option Nat) → (Nat → Option Nat) → (Nat → Option Nat) → (Nat → Option Nat) → (Nat → Option Nat) → (Nat → Option Nat) → (Nat → Option Nat) → (Nat → Int) → (Nat → Int) → (Nat → Option Nat) → (Nat → Option Nat) → (Nat → Option Nat) → (Nat → Int) → (Nat → Option Nat) → (Nat → Option Nat) → (Nat → Int) → (Nat → Option Nat) → (Nat → Int) → (Nat → Option Nat) → Prop} {x : Nat} (bC : 16 ≤ MC) (bS : 1500 ≤ MS) (hx : kd x = 1) (h1 : mX40_axioms x = 0) (h2 : mX40_facts x = 0) (h3 : mX40_questionCount x = 0) (hp : ∀ kd' an' ai' ar' m_kinds' m_lefts' m_rights' m_classFacts' m_roleFacts' m_draft' m_questions' m_forbidden' m_given' d_first' d_second' d_names' d_from' d_to' d_n' d_codes' d_least' d_hasLeast' d_others' d_otherCount' d_named', qcRm (kd') (an') (ai') al (ar') (m_kinds') (m_lefts') (m_rights') mX40_axioms (m_classFacts') (m_roleFacts') mX40_facts (m_draft') (m_questions') mX40_questionCount (m_forbidden') (m_given') (d_first') (d_second') (d_names') (d_from') (d_to') (d_n') (d_codes') (d_least') (d_hasLeast') (d_others') (d_otherCount') (d_named') mX62_answers mX62_names mX62_from mX62_to mX62_n mX62_forms mX62_count mX62_large mX62_known mX85_first mX85_second mX85_codes x kf lf rt 0 (fun _ => 0) (fun _ => 0) 0 0 QA QL → post kd' an' ai' ar' m_kinds' m_lefts' m_rights' m_classFacts' m_roleFacts' m_draft' m_questions' m_forbidden' m_given' d_first' d_second' d_names' d_from' d_to' d_n' d_codes' d_least' d_hasLeast' d_others' d_otherCount' d_named') : wpQR_X40_init MC MS post kd an ai ar mX40_kinds mX40_lefts mX40_rights mX40_classFacts mX40_roleFacts mX40_draft mX40_questions mX40_forbidden mX40_given mX41_first mX41_second mX41_names mX41_from mX41_to mX41_n mX41_codes mX41_least mX41_hasLeast mX41_others mX41_otherCount mX41_named x := by
  unfold wpQR_X40_init
  refine ⟨by omega, fun q1 hq1 aiq1 eaq1 f_kinds e_kinds => ⟨by omega, fun q2 hq2 aiq2 eaq2 f_lefts e_lefts => ⟨by omega, fun q3 hq3 aiq3 eaq3 f_rights e_rights => ⟨by omega, fun q4 hq4 aiq4 eaq4 f_classFacts e_classFacts => ⟨by omega, fun q5 hq5 aiq5 eaq5 f_roleFacts e_roleFacts => ⟨by omega, fun q6 hq6 s_first es_first s_second es_second s_names es_names s_from es_from s_to es_to s_n es_n s_codes es_codes s_least es_least s_hasLeast es_hasLeast s_others es_others s_otherCount es_otherCount s_named es_named => ⟨7, 36, ⟨by omega, by omega⟩, ?_⟩⟩⟩⟩⟩⟩⟩
  unfold wpQR_X41_init
  refine ⟨by omega, fun q7 hq7 aiq7 eaq7 f_dnames e_dnames => ⟨by omega, fun q8 hq8 aiq8 eaq8 f_dfrom e_dfrom => ⟨by omega, fun q9 hq9 aiq9 eaq9 f_dto e_dto => ⟨by omega, fun qa hqa aiqa eaqa f_dcodes e_dcodes => ⟨by omega, fun qb hqb aiqb eaqb f_dleast e_dleast => ⟨by omega, fun qc hqc aiqc eaqc f_dothers e_dothers => ⟨by omega, fun qd hqd aiqd eaqd f_dnamed e_dnamed => ⟨by omega, by omega, fun le f_draft e_draft => ⟨by omega, fun qe hqe arqe eaqe f_questions e_questions => ⟨by omega, fun qf hqf arqf eaqf f_forbidden e_forbidden => ⟨by omega, fun qg hqg aiqg eaqg f_given e_given => ⟨by omega, by omega, ?_⟩⟩⟩⟩⟩⟩⟩⟩⟩⟩⟩⟩
  obtain ⟨A, G, HL, g0, gq1, gq2, gq3, gq4, gq5, gq6, gq7, gq8, gq9, gqa, gqb, gqc, gqd, gqe, gqf, gqg⟩ := qcLab0 hx hq1 hq2 hq3 hq4 hq5 hq6 hq7 hq8 hq9 hqa hqb hqc hqd hqe hqf hqg
  have n_q7_qg : q7 ≠ qg := by rw [← gq7, ← gqg]; exact HL.ne ⟨by decide, show (0 : Int) < 7 by decide⟩ ⟨by decide, show (0 : Int) < 1 by decide⟩ (Or.inl (by decide))
  have n_q7_qf : q7 ≠ qf := by rw [← gq7, ← gqf]; exact HL.ne ⟨by decide, show (0 : Int) < 7 by decide⟩ ⟨by decide, show (0 : Int) < 1 by decide⟩ (Or.inl (by decide))
  have n_q7_qe : q7 ≠ qe := by rw [← gq7, ← gqe]; exact HL.ne ⟨by decide, show (0 : Int) < 7 by decide⟩ ⟨by decide, show (0 : Int) < 1 by decide⟩ (Or.inl (by decide))
  have n_q7_qd : q7 ≠ qd := by rw [← gq7, ← gqd]; exact HL.ne ⟨by decide, show (0 : Int) < 7 by decide⟩ ⟨by decide, show (6 : Int) < 7 by decide⟩ (Or.inr (by decide))
  have n_q7_qc : q7 ≠ qc := by rw [← gq7, ← gqc]; exact HL.ne ⟨by decide, show (0 : Int) < 7 by decide⟩ ⟨by decide, show (3 : Int) < 7 by decide⟩ (Or.inr (by decide))
  have n_q7_qb : q7 ≠ qb := by rw [← gq7, ← gqb]; exact HL.ne ⟨by decide, show (0 : Int) < 7 by decide⟩ ⟨by decide, show (5 : Int) < 7 by decide⟩ (Or.inr (by decide))
  have n_q7_qa : q7 ≠ qa := by rw [← gq7, ← gqa]; exact HL.ne ⟨by decide, show (0 : Int) < 7 by decide⟩ ⟨by decide, show (4 : Int) < 7 by decide⟩ (Or.inr (by decide))
  have n_q7_q9 : q7 ≠ q9 := by rw [← gq7, ← gq9]; exact HL.ne ⟨by decide, show (0 : Int) < 7 by decide⟩ ⟨by decide, show (2 : Int) < 7 by decide⟩ (Or.inr (by decide))
  have n_q7_q8 : q7 ≠ q8 := by rw [← gq7, ← gq8]; exact HL.ne ⟨by decide, show (0 : Int) < 7 by decide⟩ ⟨by decide, show (1 : Int) < 7 by decide⟩ (Or.inr (by decide))
  have n_q8_qg : q8 ≠ qg := by rw [← gq8, ← gqg]; exact HL.ne ⟨by decide, show (1 : Int) < 7 by decide⟩ ⟨by decide, show (0 : Int) < 1 by decide⟩ (Or.inl (by decide))
  have n_q8_qf : q8 ≠ qf := by rw [← gq8, ← gqf]; exact HL.ne ⟨by decide, show (1 : Int) < 7 by decide⟩ ⟨by decide, show (0 : Int) < 1 by decide⟩ (Or.inl (by decide))
  have n_q8_qe : q8 ≠ qe := by rw [← gq8, ← gqe]; exact HL.ne ⟨by decide, show (1 : Int) < 7 by decide⟩ ⟨by decide, show (0 : Int) < 1 by decide⟩ (Or.inl (by decide))
  have n_q8_qd : q8 ≠ qd := by rw [← gq8, ← gqd]; exact HL.ne ⟨by decide, show (1 : Int) < 7 by decide⟩ ⟨by decide, show (6 : Int) < 7 by decide⟩ (Or.inr (by decide))
  have n_q8_qc : q8 ≠ qc := by rw [← gq8, ← gqc]; exact HL.ne ⟨by decide, show (1 : Int) < 7 by decide⟩ ⟨by decide, show (3 : Int) < 7 by decide⟩ (Or.inr (by decide))
  have n_q8_qb : q8 ≠ qb := by rw [← gq8, ← gqb]; exact HL.ne ⟨by decide, show (1 : Int) < 7 by decide⟩ ⟨by decide, show (5 : Int) < 7 by decide⟩ (Or.inr (by decide))
  have n_q8_qa : q8 ≠ qa := by rw [← gq8, ← gqa]; exact HL.ne ⟨by decide, show (1 : Int) < 7 by decide⟩ ⟨by decide, show (4 : Int) < 7 by decide⟩ (Or.inr (by decide))
  have n_q8_q9 : q8 ≠ q9 := by rw [← gq8, ← gq9]; exact HL.ne ⟨by decide, show (1 : Int) < 7 by decide⟩ ⟨by decide, show (2 : Int) < 7 by decide⟩ (Or.inr (by decide))
  have n_q9_qg : q9 ≠ qg := by rw [← gq9, ← gqg]; exact HL.ne ⟨by decide, show (2 : Int) < 7 by decide⟩ ⟨by decide, show (0 : Int) < 1 by decide⟩ (Or.inl (by decide))
  have n_q9_qf : q9 ≠ qf := by rw [← gq9, ← gqf]; exact HL.ne ⟨by decide, show (2 : Int) < 7 by decide⟩ ⟨by decide, show (0 : Int) < 1 by decide⟩ (Or.inl (by decide))
  have n_q9_qe : q9 ≠ qe := by rw [← gq9, ← gqe]; exact HL.ne ⟨by decide, show (2 : Int) < 7 by decide⟩ ⟨by decide, show (0 : Int) < 1 by decide⟩ (Or.inl (by decide))
  have n_q9_qd : q9 ≠ qd := by rw [← gq9, ← gqd]; exact HL.ne ⟨by decide, show (2 : Int) < 7 by decide⟩ ⟨by decide, show (6 : Int) < 7 by decide⟩ (Or.inr (by decide))
  have n_q9_qc : q9 ≠ qc := by rw [← gq9, ← gqc]; exact HL.ne ⟨by decide, show (2 : Int) < 7 by decide⟩ ⟨by decide, show (3 : Int) < 7 by decide⟩ (Or.inr (by decide))
  have n_q9_qb : q9 ≠ qb := by rw [← gq9, ← gqb]; exact HL.ne ⟨by decide, show (2 : Int) < 7 by decide⟩ ⟨by decide, show (5 : Int) < 7 by decide⟩ (Or.inr (by decide))
  have n_q9_qa : q9 ≠ qa := by rw [← gq9, ← gqa]; exact HL.ne ⟨by decide, show (2 : Int) < 7 by decide⟩ ⟨by decide, show (4 : Int) < 7 by decide⟩ (Or.inr (by decide))
  have n_qc_qg : qc ≠ qg := by rw [← gqc, ← gqg]; exact HL.ne ⟨by decide, show (3 : Int) < 7 by decide⟩ ⟨by decide, show (0 : Int) < 1 by decide⟩ (Or.inl (by decide))
  have n_qc_qf : qc ≠ qf := by rw [← gqc, ← gqf]; exact HL.ne ⟨by decide, show (3 : Int) < 7 by decide⟩ ⟨by decide, show (0 : Int) < 1 by decide⟩ (Or.inl (by decide))
  have n_qc_qe : qc ≠ qe := by rw [← gqc, ← gqe]; exact HL.ne ⟨by decide, show (3 : Int) < 7 by decide⟩ ⟨by decide, show (0 : Int) < 1 by decide⟩ (Or.inl (by decide))
  have n_qc_qd : qc ≠ qd := by rw [← gqc, ← gqd]; exact HL.ne ⟨by decide, show (3 : Int) < 7 by decide⟩ ⟨by decide, show (6 : Int) < 7 by decide⟩ (Or.inr (by decide))
  have n_qa_qg : qa ≠ qg := by rw [← gqa, ← gqg]; exact HL.ne ⟨by decide, show (4 : Int) < 7 by decide⟩ ⟨by decide, show (0 : Int) < 1 by decide⟩ (Or.inl (by decide))
  have n_qa_qf : qa ≠ qf := by rw [← gqa, ← gqf]; exact HL.ne ⟨by decide, show (4 : Int) < 7 by decide⟩ ⟨by decide, show (0 : Int) < 1 by decide⟩ (Or.inl (by decide))
  have n_qa_qe : qa ≠ qe := by rw [← gqa, ← gqe]; exact HL.ne ⟨by decide, show (4 : Int) < 7 by decide⟩ ⟨by decide, show (0 : Int) < 1 by decide⟩ (Or.inl (by decide))
  have n_qa_qd : qa ≠ qd := by rw [← gqa, ← gqd]; exact HL.ne ⟨by decide, show (4 : Int) < 7 by decide⟩ ⟨by decide, show (6 : Int) < 7 by decide⟩ (Or.inr (by decide))
  have n_qa_qc : qa ≠ qc := by rw [← gqa, ← gqc]; exact HL.ne ⟨by decide, show (4 : Int) < 7 by decide⟩ ⟨by decide, show (3 : Int) < 7 by decide⟩ (Or.inr (by decide))
  have n_qa_qb : qa ≠ qb := by rw [← gqa, ← gqb]; exact HL.ne ⟨by decide, show (4 : Int) < 7 by decide⟩ ⟨by decide, show (5 : Int) < 7 by decide⟩ (Or.inr (by decide))
  have n_qb_qg : qb ≠ qg := by rw [← gqb, ← gqg]; exact HL.ne ⟨by decide, show (5 : Int) < 7 by decide⟩ ⟨by decide, show (0 : Int) < 1 by decide⟩ (Or.inl (by decide))
  have n_qb_qf : qb ≠ qf := by rw [← gqb, ← gqf]; exact HL.ne ⟨by decide, show (5 : Int) < 7 by decide⟩ ⟨by decide, show (0 : Int) < 1 by decide⟩ (Or.inl (by decide))
  have n_qb_qe : qb ≠ qe := by rw [← gqb, ← gqe]; exact HL.ne ⟨by decide, show (5 : Int) < 7 by decide⟩ ⟨by decide, show (0 : Int) < 1 by decide⟩ (Or.inl (by decide))
  have n_qb_qd : qb ≠ qd := by rw [← gqb, ← gqd]; exact HL.ne ⟨by decide, show (5 : Int) < 7 by decide⟩ ⟨by decide, show (6 : Int) < 7 by decide⟩ (Or.inr (by decide))
  have n_qb_qc : qb ≠ qc := by rw [← gqb, ← gqc]; exact HL.ne ⟨by decide, show (5 : Int) < 7 by decide⟩ ⟨by decide, show (3 : Int) < 7 by decide⟩ (Or.inr (by decide))
  have n_qd_qg : qd ≠ qg := by rw [← gqd, ← gqg]; exact HL.ne ⟨by decide, show (6 : Int) < 7 by decide⟩ ⟨by decide, show (0 : Int) < 1 by decide⟩ (Or.inl (by decide))
  have n_qd_qf : qd ≠ qf := by rw [← gqd, ← gqf]; exact HL.ne ⟨by decide, show (6 : Int) < 7 by decide⟩ ⟨by decide, show (0 : Int) < 1 by decide⟩ (Or.inl (by decide))
  have n_qd_qe : qd ≠ qe := by rw [← gqd, ← gqe]; exact HL.ne ⟨by decide, show (6 : Int) < 7 by decide⟩ ⟨by decide, show (0 : Int) < 1 by decide⟩ (Or.inl (by decide))
  have n_q4_qg : q4 ≠ qg := by rw [← gq4, ← gqg]; exact HL.ne ⟨by decide, show (0 : Int) < 1 by decide⟩ ⟨by decide, show (0 : Int) < 1 by decide⟩ (Or.inl (by decide))
  have n_q4_qd : q4 ≠ qd := by rw [← gq4, ← gqd]; exact HL.ne ⟨by decide, show (0 : Int) < 1 by decide⟩ ⟨by decide, show (6 : Int) < 7 by decide⟩ (Or.inl (by decide))
  have n_q4_qc : q4 ≠ qc := by rw [← gq4, ← gqc]; exact HL.ne ⟨by decide, show (0 : Int) < 1 by decide⟩ ⟨by decide, show (3 : Int) < 7 by decide⟩ (Or.inl (by decide))
  have n_q4_qb : q4 ≠ qb := by rw [← gq4, ← gqb]; exact HL.ne ⟨by decide, show (0 : Int) < 1 by decide⟩ ⟨by decide, show (5 : Int) < 7 by decide⟩ (Or.inl (by decide))
  have n_q4_qa : q4 ≠ qa := by rw [← gq4, ← gqa]; exact HL.ne ⟨by decide, show (0 : Int) < 1 by decide⟩ ⟨by decide, show (4 : Int) < 7 by decide⟩ (Or.inl (by decide))
  have n_q4_q9 : q4 ≠ q9 := by rw [← gq4, ← gq9]; exact HL.ne ⟨by decide, show (0 : Int) < 1 by decide⟩ ⟨by decide, show (2 : Int) < 7 by decide⟩ (Or.inl (by decide))
  have n_q4_q8 : q4 ≠ q8 := by rw [← gq4, ← gq8]; exact HL.ne ⟨by decide, show (0 : Int) < 1 by decide⟩ ⟨by decide, show (1 : Int) < 7 by decide⟩ (Or.inl (by decide))
  have n_q4_q7 : q4 ≠ q7 := by rw [← gq4, ← gq7]; exact HL.ne ⟨by decide, show (0 : Int) < 1 by decide⟩ ⟨by decide, show (0 : Int) < 7 by decide⟩ (Or.inl (by decide))
  have n_q4_q5 : q4 ≠ q5 := by rw [← gq4, ← gq5]; exact HL.ne ⟨by decide, show (0 : Int) < 1 by decide⟩ ⟨by decide, show (0 : Int) < 1 by decide⟩ (Or.inl (by decide))
  have n_q5_qg : q5 ≠ qg := by rw [← gq5, ← gqg]; exact HL.ne ⟨by decide, show (0 : Int) < 1 by decide⟩ ⟨by decide, show (0 : Int) < 1 by decide⟩ (Or.inl (by decide))
  have n_q5_qd : q5 ≠ qd := by rw [← gq5, ← gqd]; exact HL.ne ⟨by decide, show (0 : Int) < 1 by decide⟩ ⟨by decide, show (6 : Int) < 7 by decide⟩ (Or.inl (by decide))
  have n_q5_qc : q5 ≠ qc := by rw [← gq5, ← gqc]; exact HL.ne ⟨by decide, show (0 : Int) < 1 by decide⟩ ⟨by decide, show (3 : Int) < 7 by decide⟩ (Or.inl (by decide))
  have n_q5_qb : q5 ≠ qb := by rw [← gq5, ← gqb]; exact HL.ne ⟨by decide, show (0 : Int) < 1 by decide⟩ ⟨by decide, show (5 : Int) < 7 by decide⟩ (Or.inl (by decide))
  have n_q5_qa : q5 ≠ qa := by rw [← gq5, ← gqa]; exact HL.ne ⟨by decide, show (0 : Int) < 1 by decide⟩ ⟨by decide, show (4 : Int) < 7 by decide⟩ (Or.inl (by decide))
  have n_q5_q9 : q5 ≠ q9 := by rw [← gq5, ← gq9]; exact HL.ne ⟨by decide, show (0 : Int) < 1 by decide⟩ ⟨by decide, show (2 : Int) < 7 by decide⟩ (Or.inl (by decide))
  have n_q5_q8 : q5 ≠ q8 := by rw [← gq5, ← gq8]; exact HL.ne ⟨by decide, show (0 : Int) < 1 by decide⟩ ⟨by decide, show (1 : Int) < 7 by decide⟩ (Or.inl (by decide))
  have n_q5_q7 : q5 ≠ q7 := by rw [← gq5, ← gq7]; exact HL.ne ⟨by decide, show (0 : Int) < 1 by decide⟩ ⟨by decide, show (0 : Int) < 7 by decide⟩ (Or.inl (by decide))
  have a_q7 : (va_up (va_up (va_up (va_up (va_up (va_up (va_up (va_up (va_up (va_up (va_up (va_up (va_up (va_up (va_up an q1 16) q2 16) q3 16) q4 120) q5 1152) q7 4) q8 4) q9 4) qa 4) qb 4) qc 8) qd 8) qe 6) qf 16) qg 6) q7 = 4 := by rw [va_up_ne _ _ n_q7_qg, va_up_ne _ _ n_q7_qf, va_up_ne _ _ n_q7_qe, va_up_ne _ _ n_q7_qd, va_up_ne _ _ n_q7_qc, va_up_ne _ _ n_q7_qb, va_up_ne _ _ n_q7_qa, va_up_ne _ _ n_q7_q9, va_up_ne _ _ n_q7_q8, va_up_self]
  have a_q8 : (va_up (va_up (va_up (va_up (va_up (va_up (va_up (va_up (va_up (va_up (va_up (va_up (va_up (va_up (va_up an q1 16) q2 16) q3 16) q4 120) q5 1152) q7 4) q8 4) q9 4) qa 4) qb 4) qc 8) qd 8) qe 6) qf 16) qg 6) q8 = 4 := by rw [va_up_ne _ _ n_q8_qg, va_up_ne _ _ n_q8_qf, va_up_ne _ _ n_q8_qe, va_up_ne _ _ n_q8_qd, va_up_ne _ _ n_q8_qc, va_up_ne _ _ n_q8_qb, va_up_ne _ _ n_q8_qa, va_up_ne _ _ n_q8_q9, va_up_self]
  have a_q9 : (va_up (va_up (va_up (va_up (va_up (va_up (va_up (va_up (va_up (va_up (va_up (va_up (va_up (va_up (va_up an q1 16) q2 16) q3 16) q4 120) q5 1152) q7 4) q8 4) q9 4) qa 4) qb 4) qc 8) qd 8) qe 6) qf 16) qg 6) q9 = 4 := by rw [va_up_ne _ _ n_q9_qg, va_up_ne _ _ n_q9_qf, va_up_ne _ _ n_q9_qe, va_up_ne _ _ n_q9_qd, va_up_ne _ _ n_q9_qc, va_up_ne _ _ n_q9_qb, va_up_ne _ _ n_q9_qa, va_up_self]
  have a_qc : (va_up (va_up (va_up (va_up (va_up (va_up (va_up (va_up (va_up (va_up (va_up (va_up (va_up (va_up (va_up an q1 16) q2 16) q3 16) q4 120) q5 1152) q7 4) q8 4) q9 4) qa 4) qb 4) qc 8) qd 8) qe 6) qf 16) qg 6) qc = 8 := by rw [va_up_ne _ _ n_qc_qg, va_up_ne _ _ n_qc_qf, va_up_ne _ _ n_qc_qe, va_up_ne _ _ n_qc_qd, va_up_self]
  have a_qa : (va_up (va_up (va_up (va_up (va_up (va_up (va_up (va_up (va_up (va_up (va_up (va_up (va_up (va_up (va_up an q1 16) q2 16) q3 16) q4 120) q5 1152) q7 4) q8 4) q9 4) qa 4) qb 4) qc 8) qd 8) qe 6) qf 16) qg 6) qa = 4 := by rw [va_up_ne _ _ n_qa_qg, va_up_ne _ _ n_qa_qf, va_up_ne _ _ n_qa_qe, va_up_ne _ _ n_qa_qd, va_up_ne _ _ n_qa_qc, va_up_ne _ _ n_qa_qb, va_up_self]
  have a_qb : (va_up (va_up (va_up (va_up (va_up (va_up (va_up (va_up (va_up (va_up (va_up (va_up (va_up (va_up (va_up an q1 16) q2 16) q3 16) q4 120) q5 1152) q7 4) q8 4) q9 4) qa 4) qb 4) qc 8) qd 8) qe 6) qf 16) qg 6) qb = 4 := by rw [va_up_ne _ _ n_qb_qg, va_up_ne _ _ n_qb_qf, va_up_ne _ _ n_qb_qe, va_up_ne _ _ n_qb_qd, va_up_ne _ _ n_qb_qc, va_up_self]
  have a_qd : (va_up (va_up (va_up (va_up (va_up (va_up (va_up (va_up (va_up (va_up (va_up (va_up (va_up (va_up (va_up an q1 16) q2 16) q3 16) q4 120) q5 1152) q7 4) q8 4) q9 4) qa 4) qb 4) qc 8) qd 8) qe 6) qf 16) qg 6) qd = 8 := by rw [va_up_ne _ _ n_qd_qg, va_up_ne _ _ n_qd_qf, va_up_ne _ _ n_qd_qe, va_up_self]
  have nn := fun i j h0 h1 i' j' h0' h1' h => HL.ne (i := i) (j := j) (i' := i') (j' := j') ⟨h0, h1⟩ ⟨h0', h1'⟩ h
  refine hp _ _ _ _ _ _ _ _ _ _ _ _ _ _ _ _ _ _ _ _ _ _ _ _ _ ⟨A, G, 0, 0, fun _ => (0, 0, []), fun _ => 0, fun _ => [], fun _ => ([], 0), fun _ => 0, fun _ => 0, fun _ => 0, fun _ => 0, g0, ⟨⟨HL, Int.le_refl _, Int.le_refl _⟩, ⟨⟨?_, ?_, ?_⟩, ⟨?_, ?_⟩, ?_, ?_, ?_, ?_⟩, ⟨?_, ⟨?_, ?_, ?_, ?_, ?_, ?_, ?_⟩, ?_, ?_⟩, fun r r0 r1 => by omega, fun i i0 i1 => by omega, ⟨by rw [g0]; exact h1, ⟨by decide, fun y y0 y1 => by omega⟩, fun y y0 y1 => by omega⟩, ⟨⟨?_, ?_⟩, fun _ => ⟨Or.inl rfl, Or.inl rfl⟩, by rw [g0]; exact h2, ?_⟩, ⟨by rw [g0]; exact ⟨h3, by decide, by decide⟩, fun q b0 b1 => by omega, fun y b0 b1 => by omega⟩⟩, fun i i0 i1 => by omega, fun q b0 b1 => by omega, fun y b0 b1 => by omega⟩
  · rw [g0, gq1, e_kinds, va_up_self]
  · rw [g0, gq2, e_lefts, va_up_self]
  · rw [g0, gq3, e_rights, va_up_self]
  · rw [g0, gq4, e_classFacts, va_up_self]
  · rw [g0, gq5, e_roleFacts, va_up_self]
  · rw [g0, gq6, e_draft, va_up_self]
  · rw [g0, gqe, e_questions, va_up_self]
  · rw [g0, gqf, e_forbidden, va_up_self]
  · rw [g0, gqg, e_given, va_up_self]
  · exact (HL 1 0 (by decide) (show (0 : Int) < 1 by decide)).2.1.1
  · show f_dnames (A 1 0) = some (A 5 0)
    rw [gq6, gq7, e_dnames, va_up_self]
  · show f_dfrom (A 1 0) = some (A 5 1)
    rw [gq6, gq8, e_dfrom, va_up_self]
  · show f_dto (A 1 0) = some (A 5 2)
    rw [gq6, gq9, e_dto, va_up_self]
  · show f_dothers (A 1 0) = some (A 5 3)
    rw [gq6, gqc, e_dothers, va_up_self]
  · show f_dcodes (A 1 0) = some (A 5 4)
    rw [gq6, gqa, e_dcodes, va_up_self]
  · show f_dleast (A 1 0) = some (A 5 5)
    rw [gq6, gqb, e_dleast, va_up_self]
  · show f_dnamed (A 1 0) = some (A 5 6)
    rw [gq6, gqd, e_dnamed, va_up_self]
  · intro i hi
    refine ⟨(HL 5 i (by omega) (show (i : Int) < 7 by omega)).2.1.1, ?_⟩
    match i with
    | 0 => exact (congrArg _ gq7).trans a_q7
    | 1 => exact (congrArg _ gq8).trans a_q8
    | 2 => exact (congrArg _ gq9).trans a_q9
    | 3 => exact (congrArg _ gqc).trans a_qc
    | 4 => exact (congrArg _ gqa).trans a_qa
    | 5 => exact (congrArg _ gqb).trans a_qb
    | 6 => exact (congrArg _ gqd).trans a_qd
    | i + 7 => omega
  · intro i j hi hj h
    exact HL.ne ⟨by omega, show (i : Int) < 7 by omega⟩ ⟨by omega, show (j : Int) < 7 by omega⟩ (Or.inr (by omega))
  · rw [gq4, eaqg, va_up_ne _ _ n_q4_qg, eaqd, va_up_ne _ _ n_q4_qd, eaqc, va_up_ne _ _ n_q4_qc, eaqb, va_up_ne _ _ n_q4_qb, eaqa, va_up_ne _ _ n_q4_qa, eaq9, va_up_ne _ _ n_q4_q9, eaq8, va_up_ne _ _ n_q4_q8, eaq7, va_up_ne _ _ n_q4_q7, eaq5, va_up_ne _ _ n_q4_q5, eaq4, va_up_self]
  · rw [gq5, eaqg, va_up_ne _ _ n_q5_qg, eaqd, va_up_ne _ _ n_q5_qd, eaqc, va_up_ne _ _ n_q5_qc, eaqb, va_up_ne _ _ n_q5_qb, eaqa, va_up_ne _ _ n_q5_qa, eaq9, va_up_ne _ _ n_q5_q9, eaq8, va_up_ne _ _ n_q5_q8, eaq7, va_up_ne _ _ n_q5_q7, eaq5, va_up_self]
  · rw [cntI_0 (fun _ _ _ (h : (0 : Int) = 1) => by omega), cntI_0 (fun _ _ _ (h : (0 : Int) = 1) => by omega)]; rfl
end

/-! QlRewrite, plain: both sides' forms agree -/
section
variable {f g : Int → Int} {a b v w : Int} {c : List Int} {l l0 l1 : List qA} {t : qA}
theorem qFm_set (e : ∀ t, t ∈ l0 ↔ t ∈ l1) : qFm a b l0 c ↔ qFm a b l1 c := by
  have e' : (fun t => t ∈ l0) = (fun t => t ∈ l1) := funext fun t => propext (e t)
  unfold qFm
  rw [e']
theorem qFN_set (e : ∀ t, t ∈ l0 ↔ t ∈ l1) : qFN a b l0 = qFN a b l1 := by
  have e' : qFm a b l0 = qFm a b l1 := funext fun c => propext (qFm_set e)
  unfold qFN
  rw [e']
theorem qTr_map (hg : ∀ x, g (f x) = x) : (l.map (qTr f)).map (qTr g) = l := by
  rw [List.map_map]
  conv => rhs; rw [← List.map_id l]
  refine List.map_congr_left (fun t _ => ?_)
  obtain ⟨t1, t2, t3⟩ := t
  show (t1, g (f t2), g (f t3)) = (t1, t2, t3)
  rw [hg, hg]
theorem qFm_ri (hg : ∀ x, g (f x) = x) (hf : ∀ x, f (g x) = x) (h6 : f 6 = 6) (h7 : f 7 = 7) : qFm (f a) (f b) (l.map (qTr f)) c ↔ qFm a b l c := by
  have if_ : ∀ x y, f x = f y → x = y := fun x y h => by rw [← hg x, ← hg y, h]
  have ig : ∀ x y, g x = g y → x = y := fun x y h => by rw [← hf x, ← hf y, h]
  refine ⟨fun h => ?_, fun h => qFm_r if_ h6 h7 h⟩
  have H := qFm_r ig (show g 6 = 6 by rw [← h6, hg, h6]) (show g 7 = 7 by rw [← h7, hg, h7]) h
  rw [hg, hg, qTr_map hg] at H
  exact H
theorem qFN_ri (hg : ∀ x, g (f x) = x) (hf : ∀ x, f (g x) = x) (h6 : f 6 = 6) (h7 : f 7 = 7) : qFN (f a) (f b) (l.map (qTr f)) = qFN a b l := by
  have e : qFm (f a) (f b) (l.map (qTr f)) = qFm a b l := funext fun c => propext (qFm_ri hg hf h6 h7)
  unfold qFN
  rw [e]
/-- the component's numbers for variables to the reference's -/
def qcUp (v : Int) : Int := if 8 ≤ v ∧ v < 16 then v + 2 else if 16 ≤ v ∧ v < 18 then v - 8 else v
def qcDn (v : Int) : Int := if 10 ≤ v ∧ v < 18 then v - 2 else if 8 ≤ v ∧ v < 10 then v + 8 else v
theorem qcUp_d (x : Int) : qcDn (qcUp x) = x := by
  unfold qcUp
  by_cases h : 8 ≤ x ∧ x < 16
  · rw [if_pos h]
    unfold qcDn
    rw [if_pos (by omega)]; omega
  · rw [if_neg h]
    by_cases h2 : 16 ≤ x ∧ x < 18
    · rw [if_pos h2]
      unfold qcDn
      rw [if_neg (by omega), if_pos (by omega)]; omega
    · rw [if_neg h2]
      unfold qcDn
      rw [if_neg (by omega), if_neg (by omega)]
theorem qcDn_u (x : Int) : qcUp (qcDn x) = x := by
  unfold qcDn
  by_cases h : 10 ≤ x ∧ x < 18
  · rw [if_pos h]
    unfold qcUp
    rw [if_pos (by omega)]; omega
  · rw [if_neg h]
    by_cases h2 : 8 ≤ x ∧ x < 10
    · rw [if_pos h2]
      unfold qcUp
      rw [if_neg (by omega), if_pos (by omega)]; omega
    · rw [if_neg h2]
      unfold qcUp
      rw [if_neg (by omega), if_neg (by omega)]
/-- the three numbers of a forbidding question -/
def qcSw (v : Int) : Int := if 0 ≤ v ∧ v < 3 then v + 10 else if 10 ≤ v ∧ v < 13 then v - 10 else v
theorem qcSw_s (x : Int) : qcSw (qcSw x) = x := by
  unfold qcSw
  by_cases h : 0 ≤ x ∧ x < 3
  · rw [if_pos h, if_neg (by omega), if_pos (by omega)]; omega
  · rw [if_neg h]
    by_cases h2 : 10 ≤ x ∧ x < 13
    · rw [if_pos h2, if_pos (by omega)]; omega
    · rw [if_neg h2, if_neg h, if_neg h2]
theorem qcZ_e {kf lf rt : Int → Int} {na an : Int} : qcZ kf lf rt na an l = qQz kf lf rt na an (l.map (qTr qcUp)) := by
  unfold qcZ qQz qFin
  have e1 : qcUp (if an ≤ 0 then -1 else 8) = (if an ≤ 0 then -1 else 10) := by
    by_cases h : an ≤ 0
    · rw [if_pos h, if_pos h]; decide
    · rw [if_neg h, if_neg h]; decide
  have e2 : qcUp (if an ≤ 1 then -1 else 9) = (if an ≤ 1 then -1 else 11) := by
    by_cases h : an ≤ 1
    · rw [if_pos h, if_pos h]; decide
    · rw [if_neg h, if_neg h]; decide
  have e3 := qFN_ri (f := qcUp) (g := qcDn) (a := (if an ≤ 0 then -1 else 8)) (b := (if an ≤ 1 then -1 else 9)) (l := l) qcUp_d qcDn_u (by decide) (by decide)
  rw [e1, e2] at e3
  rw [e3]
  have e4 : qOn (if an ≤ 0 then -1 else 8) = qOn (if an ≤ 0 then -1 else 10) := by
    unfold qOn
    by_cases h : an ≤ 0
    · rw [if_pos h, if_pos h]
    · rw [if_neg h, if_neg h]; rfl
  have e5 : qTw (if an ≤ 0 then -1 else 8) (if an ≤ 1 then -1 else 9) = qTw (if an ≤ 0 then -1 else 10) (if an ≤ 1 then -1 else 11) := by
    unfold qTw
    by_cases h : an ≤ 0
    · rw [if_pos h, if_pos h, if_pos (by omega : an ≤ 1), if_pos (by omega : an ≤ 1)]
    · rw [if_neg h, if_neg h]
      by_cases h2 : an ≤ 1
      · rw [if_pos h2, if_pos h2]; decide
      · rw [if_neg h2, if_neg h2]; decide
  rw [e4, e5]
theorem qcLa_s {kx k : Int} (hk : k = 0 ∨ k = 1) : qTr qcSw (qcLa kx v k) = qLa kx v k := by
  have s0 : qcSw 0 = 10 := by decide
  have s1 : qcSw 1 = 11 := by decide
  have s7 : qcSw 7 = 7 := by decide
  have sk : qcSw (1 + k) = 11 + k := by
    rcases hk with h | h <;> rw [h] <;> decide
  unfold qcLa qLa qTr
  by_cases z : kx = 2 ∧ v < 20
  · rw [if_pos z, if_pos z]
    show (v, qcSw 0, qcSw 7) = (v, 10, 7)
    rw [s0, s7]
  · rw [if_neg z, if_neg z]
    dsimp only
    by_cases y : kx = 2
    · by_cases u : v % 2 = 0
      · rw [if_pos u, if_pos u, if_pos u, if_pos u, if_pos y, if_pos y, if_pos y, s0, sk]
      · rw [if_neg u, if_neg u, if_neg u, if_neg u, if_pos y, if_pos y, if_pos y, s0, sk]
    · by_cases u : v % 2 = 0
      · rw [if_pos u, if_pos u, if_pos u, if_pos u, if_neg y, if_neg y, if_neg y, s0, s1]
      · rw [if_neg u, if_neg u, if_neg u, if_neg u, if_neg y, if_neg y, if_neg y, s0, s1]
theorem qcLy_m {kx L Rr : Int} : t ∈ (qcLy kx L Rr).map (qTr qcSw) ↔ t ∈ qLy kx L Rr := by
  have e0 := qcLa_s (kx := kx) (v := L) (Or.inl rfl : (0 : Int) = 0 ∨ (0 : Int) = 1)
  have e1 := qcLa_s (kx := kx) (v := Rr) (Or.inr rfl : (1 : Int) = 0 ∨ (1 : Int) = 1)
  have c : t ∈ (qcLy kx L Rr).map (qTr qcSw) ↔ t = qLa kx L 0 ∨ t = qLa kx Rr 1 := by
    unfold qcLy
    by_cases z : ¬ (kx = 2 ∧ Rr < 20) ∧ qcLa kx L 0 = qcLa kx Rr 1
    · rw [if_pos z, List.map_cons, List.map_nil, List.mem_singleton, e0]
      rw [← e1, ← z.2, e0]
      exact ⟨Or.inl, fun h => h.elim id id⟩
    · rw [if_neg z, List.map_cons, List.map_cons, List.map_nil, e0, e1, List.mem_cons, List.mem_singleton]
  rw [c]
  unfold qLy
  by_cases z : qLa kx L 0 = qLa kx Rr 1
  · rw [if_pos z, List.mem_singleton, ← z]
    exact ⟨fun h => h.elim id id, Or.inl⟩
  · rw [if_neg z, List.mem_cons, List.mem_singleton]
theorem qcZ_cl {kf lf rt : Int → Int} {na kx L Rr : Int} : qcZ kf lf rt na 0 (qcLy kx L Rr) = qQz kf lf rt na 0 (qLy kx L Rr) := by
  unfold qcZ qQz qFin
  rw [if_pos (Int.le_refl 0), if_pos (by decide : (0 : Int) ≤ 1), if_pos (Int.le_refl 0), if_pos (by decide : (0 : Int) ≤ 1)]
  have e3 := qFN_ri (f := qcSw) (g := qcSw) (a := -1) (b := -1) (l := qcLy kx L Rr) qcSw_s qcSw_s (by decide) (by decide)
  rw [show qcSw (-1) = -1 by decide, qFN_set (fun t => qcLy_m (t := t))] at e3
  rw [e3]
theorem qcBr_e {kf lf rt : Int → Int} {na : Int} {Fa Fb : Int → Int → Int → Prop} (hF : ∀ c u v, Fa c u v ↔ Fb c u v) : ∀ (p : Nat) (y : Int), qcBr kf lf rt na Fa p y = qBr kf lf rt na Fb p y
  | 0, _ => rfl
  | p + 1, y => by
    have e : Fa = Fb := funext fun c => funext fun u => funext fun v => propext (hF c u v)
    rw [qcBr, qBr, qcBr_e hF p (y + 1), qcZ_cl, e]
end
