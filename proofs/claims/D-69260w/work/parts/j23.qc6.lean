/-! QlRewrite (room QR): its shape -/
/-- labels: 0 this, 1 draft, 2 kinds lefts rights, 3 class facts, 4 role facts, 5 the draft's arrays, 6 questions, 7 forbidden, 8 given, 9 question objects, 10 their arrays, 11 their forms' arrays, 12 forms, 13 forms' codes -/
def qcLK : Nat → Nat
  | 0 => 1 | 1 => 2 | 2 => 5 | 3 => 6 | 4 => 6 | 5 => 5 | 6 => 7 | 7 => 7 | 8 => 5 | 9 => 3 | 10 => 5 | 11 => 8 | 12 => 4 | 13 => 5 | _ => 99
def qcLL : Nat → Nat
  | 2 => 16 | 3 => 120 | 4 => 1152 | 6 => 6 | 7 => 16 | 8 => 6 | 10 => 4 | 11 => 90 | _ => 0
def qcLN (nq nF : Int) : Nat → Int
  | 0 => 1 | 1 => 1 | 2 => 3 | 3 => 1 | 4 => 1 | 5 => 7 | 6 => 1 | 7 => 1 | 8 => 1 | 9 => nq | 10 => 3 * nq | 11 => nq | 12 => nF | 13 => nF | _ => 0
def qcP (A : Nat → Int → Nat) : Nat → Nat := fun i => A 5 (i : Int)
def qcFl (ks ls rs cf rf dr qs fb gv : Nat → Option Nat) (A : Nat → Int → Nat) : Prop := (ks (A 0 0) = some (A 2 0) ∧ ls (A 0 0) = some (A 2 1) ∧ rs (A 0 0) = some (A 2 2)) ∧ (cf (A 0 0) = some (A 3 0) ∧ rf (A 0 0) = some (A 4 0)) ∧ dr (A 0 0) = some (A 1 0) ∧ qs (A 0 0) = some (A 6 0) ∧ fb (A 0 0) = some (A 7 0) ∧ gv (A 0 0) = some (A 8 0)
/-- a form -/
def qcFo (an : Nat → Nat) (ai : Nat → Int → Int) (f1 f2 : Nat → Int) (cd : Nat → Option Nat) (A : Nat → Int → Nat) (r : Int) (F : qFo) : Prop := (f1 (A 12 r) = F.1 ∧ f2 (A 12 r) = F.2.1 ∧ cd (A 12 r) = some (A 13 r)) ∧ (1 ≤ (an (A 13 r) : Int) ∧ (an (A 13 r) : Int) ≤ 4) ∧ aF (ai (A 13 r)) 0 (an (A 13 r)) = F.2.2 ∧ (∀ u ∈ F.2.2, qGc u) ∧ F.1 < 6 ∧ F.2.1 < 6
/-- a question: its atoms; its forms -/
def qcQ1 (ans : Nat → Int) (ns fs ts fm : Nat → Option Nat) (n : Nat → Int) (ai : Nat → Int → Int) (A : Nat → Int → Nat) (j q : Int) (l : List qA) : Prop := (ans (A 9 j) = q ∧ 0 ≤ q ∧ q < 3) ∧ (ns (A 9 j) = some (A 10 (3 * j)) ∧ fs (A 9 j) = some (A 10 (3 * j + 1)) ∧ ts (A 9 j) = some (A 10 (3 * j + 2)) ∧ fm (A 9 j) = some (A 11 j)) ∧ (0 ≤ n (A 9 j) ∧ n (A 9 j) ≤ 4) ∧ aF (qAr (ai (A 10 (3 * j))) (ai (A 10 (3 * j + 1))) (ai (A 10 (3 * j + 2)))) 0 (n (A 9 j)).toNat = l ∧ ∀ t ∈ l, qGa t
def qcQ2 (cn lg : Nat → Int) (ar : Nat → Int → Option Nat) (A : Nat → Int → Nat) (j : Int) (S : qSS) (FF : Int → qFo) (nF : Int) : Prop := cn (A 9 j) = S.1.length ∧ S.1.length ≤ 90 ∧ lg (A 9 j) = S.2 ∧ (S.2 = 0 ∨ (S.2 = 1 ∧ S.1.length = 90)) ∧ ∀ i : Int, 0 ≤ i → i < S.1.length → ∃ r, (0 ≤ r ∧ r < nF) ∧ ar (A 11 j) i = some (A 12 r) ∧ FF r = S.1.getD i.toNat (0, 0, [])
def qcAx (ax : Nat → Int) (ai : Nat → Int → Int) (A : Nat → Int → Nat) (kf lf rt : Int → Int) (na : Int) : Prop := ax (A 0 0) = na ∧ qAi kf lf rt na ∧ ∀ k, 0 ≤ k → k < na → ai (A 2 0) k = kf k ∧ ai (A 2 1) k = lf k ∧ ai (A 2 2) k = rt k
def qcFc (fc : Nat → Int) (ai : Nat → Int → Int) (A : Nat → Int → Nat) (cf rf : Int → Int) (nf : Int) : Prop := (ai (A 3 0) = cf ∧ ai (A 4 0) = rf) ∧ (∀ i, (cf i = 0 ∨ cf i = 1) ∧ (rf i = 0 ∨ rf i = 1)) ∧ fc (A 0 0) = nf ∧ nf = cntI (fun i => cf i = 1) 120 + cntI (fun i => rf i = 1) 1152
/-- which question objects stand where -/
def qcSl (qc : Nat → Int) (ar : Nat → Int → Option Nat) (A : Nat → Int → Nat) (kf : Int → Int) (na nq nQ : Int) (sq sf ow : Int → Int) : Prop := (qc (A 0 0) = nQ ∧ 0 ≤ nQ ∧ nQ ≤ 6) ∧ (∀ q, 0 ≤ q → q < nQ → ar (A 6 0) q = some (A 9 (sq q)) ∧ (0 ≤ sq q ∧ sq q < nq) ∧ ow (sq q) = q) ∧ ∀ x, 0 ≤ x → x < na → (kf x < 2 → ar (A 7 0) x = none) ∧ (2 ≤ kf x → ar (A 7 0) x = some (A 9 (sf x)) ∧ (0 ≤ sf x ∧ sf x < nq) ∧ ow (sf x) = 100 + x)
section
variable {an an' : Nat → Nat} {ai ai' : Nat → Int → Int} {ar ar' : Nat → Int → Option Nat} {f1 f2 f1' f2' ans n cn lg cn' lg' ax fc qc : Nat → Int} {cd cd' ns fs ts fm : Nat → Option Nat} {A A' : Nat → Int → Nat} {r j q nF nF' na nf nq nq' nQ : Int} {F : qFo} {l : List qA} {S : qSS} {FF FF' : Int → qFo} {kf lf rt cf rf sq sf ow : Int → Int}
theorem qcFo.tr (h : qcFo an ai f1 f2 cd A r F) (a1 : A' 12 r = A 12 r) (a2 : A' 13 r = A 13 r) (e1 : f1' (A 12 r) = f1 (A 12 r)) (e2 : f2' (A 12 r) = f2 (A 12 r)) (e3 : cd' (A 12 r) = cd (A 12 r)) (e4 : an' (A 13 r) = an (A 13 r)) (e5 : ai' (A 13 r) = ai (A 13 r)) : qcFo an' ai' f1' f2' cd' A' r F := by
  unfold qcFo at h ⊢
  rw [a1, a2, e1, e2, e3, e4, e5]; exact h
theorem qcQ1.tr (h : qcQ1 ans ns fs ts fm n ai A j q l) (a1 : A' 9 j = A 9 j) (a2 : A' 11 j = A 11 j) (a3 : A' 10 (3 * j) = A 10 (3 * j)) (a4 : A' 10 (3 * j + 1) = A 10 (3 * j + 1)) (a5 : A' 10 (3 * j + 2) = A 10 (3 * j + 2)) (e3 : ai' (A 10 (3 * j)) = ai (A 10 (3 * j))) (e4 : ai' (A 10 (3 * j + 1)) = ai (A 10 (3 * j + 1))) (e5 : ai' (A 10 (3 * j + 2)) = ai (A 10 (3 * j + 2))) : qcQ1 ans ns fs ts fm n ai' A' j q l := by
  unfold qcQ1 at h ⊢
  rw [a1, a2, a3, a4, a5, e3, e4, e5]; exact h
theorem qcQ2.tr (h : qcQ2 cn lg ar A j S FF nF) (a1 : A' 9 j = A 9 j) (a2 : A' 11 j = A 11 j) (e1 : cn' (A 9 j) = cn (A 9 j)) (e2 : lg' (A 9 j) = lg (A 9 j)) (e3 : ar' (A 11 j) = ar (A 11 j)) (hF : ∀ r, 0 ≤ r → r < nF → A' 12 r = A 12 r ∧ FF' r = FF r) (hn : nF ≤ nF') : qcQ2 cn' lg' ar' A' j S FF' nF' := by
  obtain ⟨h1, h2, h3, h4, h5⟩ := h
  refine ⟨by rw [a1, e1]; exact h1, h2, by rw [a1, e2]; exact h3, h4, fun i i0 i1 => ?_⟩
  obtain ⟨r, hr, e, f⟩ := h5 i i0 i1
  exact ⟨r, by omega, by rw [a2, e3, (hF r hr.1 hr.2).1]; exact e, by rw [(hF r hr.1 hr.2).2]; exact f⟩
theorem qcAx.tr (h : qcAx ax ai A kf lf rt na) (a0 : A' 0 0 = A 0 0) (a1 : A' 2 0 = A 2 0) (a2 : A' 2 1 = A 2 1) (a3 : A' 2 2 = A 2 2) (e1 : ai' (A 2 0) = ai (A 2 0)) (e2 : ai' (A 2 1) = ai (A 2 1)) (e3 : ai' (A 2 2) = ai (A 2 2)) : qcAx ax ai' A' kf lf rt na := by
  unfold qcAx at h ⊢
  rw [a0, a1, a2, a3, e1, e2, e3]; exact h
theorem qcFc.tr (h : qcFc fc ai A cf rf nf) (a0 : A' 0 0 = A 0 0) (a1 : A' 3 0 = A 3 0) (a2 : A' 4 0 = A 4 0) (e1 : ai' (A 3 0) = ai (A 3 0)) (e2 : ai' (A 4 0) = ai (A 4 0)) : qcFc fc ai' A' cf rf nf := by
  unfold qcFc at h ⊢
  rw [a0, a1, a2, e1, e2]; exact h
theorem qcSl.tr (h : qcSl qc ar A kf na nq nQ sq sf ow) (a0 : A' 0 0 = A 0 0) (a1 : A' 6 0 = A 6 0) (a2 : A' 7 0 = A 7 0) (hA : ∀ j, 0 ≤ j → j < nq → A' 9 j = A 9 j) (e1 : ar' (A 6 0) = ar (A 6 0)) (e2 : ar' (A 7 0) = ar (A 7 0)) (hn : nq ≤ nq') : qcSl qc ar' A' kf na nq' nQ sq sf ow := by
  obtain ⟨h1, h2, h3⟩ := h
  refine ⟨by rw [a0]; exact h1, fun q q0 q1 => ?_, fun x x0 x1 => ⟨fun z => ?_, fun z => ?_⟩⟩
  · obtain ⟨e, b, w⟩ := h2 q q0 q1
    exact ⟨by rw [a1, e1, hA _ b.1 b.2]; exact e, by omega, w⟩
  · rw [a2, e2]; exact (h3 x x0 x1).1 z
  · obtain ⟨e, b, w⟩ := (h3 x x0 x1).2 z
    exact ⟨by rw [a2, e2, hA _ b.1 b.2]; exact e, by omega, w⟩
end
theorem qcD.le {kd an kd' an' : Nat → Nat} {ns fs ts os cs ls ds : Nat → Option Nat} {x : Nat} {P : Nat → Nat} (h : qcD kd an ns fs ts os cs ls ds x P) (le : kLe kd an kd' an') : qcD kd' an' ns fs ts os cs ls ds x P := by
  obtain ⟨h1, h2, h3, h4⟩ := h
  refine ⟨((le x (by rw [h1]; decide)).1).trans h1, h2, fun i hi => ?_, h4⟩
  have l := le (P i) (by rw [(h3 i hi).1]; decide)
  exact ⟨l.1.trans (h3 i hi).1, l.2.trans (h3 i hi).2⟩
/-- the room -/
def qcR (kd : Nat → Nat) (an : Nat → Nat) (ai : Nat → Int → Int) (al : Nat → Int → Int) (ar : Nat → Int → Option Nat) (mX40_kinds : Nat → Option Nat) (mX40_lefts : Nat → Option Nat) (mX40_rights : Nat → Option Nat) (mX40_axioms : Nat → Int) (mX40_classFacts : Nat → Option Nat) (mX40_roleFacts : Nat → Option Nat) (mX40_facts : Nat → Int) (mX40_draft : Nat → Option Nat) (mX40_questions : Nat → Option Nat) (mX40_questionCount : Nat → Int) (mX40_forbidden : Nat → Option Nat) (mX40_given : Nat → Option Nat) (mX41_first : Nat → Int) (mX41_second : Nat → Int) (mX41_names : Nat → Option Nat) (mX41_from : Nat → Option Nat) (mX41_to : Nat → Option Nat) (mX41_n : Nat → Int) (mX41_codes : Nat → Option Nat) (mX41_least : Nat → Option Nat) (mX41_hasLeast : Nat → Int) (mX41_others : Nat → Option Nat) (mX41_otherCount : Nat → Int) (mX41_named : Nat → Option Nat) (mX62_answers : Nat → Int) (mX62_names : Nat → Option Nat) (mX62_from : Nat → Option Nat) (mX62_to : Nat → Option Nat) (mX62_n : Nat → Int) (mX62_forms : Nat → Option Nat) (mX62_count : Nat → Int) (mX62_large : Nat → Int) (mX62_known : Nat → Int) (mX85_first : Nat → Int) (mX85_second : Nat → Int) (mX85_codes : Nat → Option Nat) (A : Nat → Int → Nat) (G : Nat → Nat × Int) (nq nF : Int) (FF : Int → qFo) (qa : Int → Int) (ql : Int → List qA) (qS : Int → qSS) (qk kf lf rt : Int → Int) (na : Int) (cf rf : Int → Int) (nf nQ : Int) (sq sf ow : Int → Int) : Prop :=
  (Lab qcLK qcLL kd an A G (qcLN nq nF) ∧ 0 ≤ nq ∧ 0 ≤ nF) ∧ qcFl mX40_kinds mX40_lefts mX40_rights mX40_classFacts mX40_roleFacts mX40_draft mX40_questions mX40_forbidden mX40_given A ∧ qcD kd an mX41_names mX41_from mX41_to mX41_others mX41_codes mX41_least mX41_named (A 1 0) (qcP A) ∧
  (∀ r, 0 ≤ r → r < nF → qcFo an ai mX85_first mX85_second mX85_codes A r (FF r)) ∧ (∀ j, 0 ≤ j → j < nq → qcQ1 mX62_answers mX62_names mX62_from mX62_to mX62_forms mX62_n ai A j (qa j) (ql j) ∧ qcQ2 mX62_count mX62_large ar A j (qS j) FF nF ∧ mX62_known (A 9 j) = qk j) ∧
  qcAx mX40_axioms ai A kf lf rt na ∧ qcFc mX40_facts ai A cf rf nf ∧ qcSl mX40_questionCount ar A kf na nq nQ sq sf ow
/-- labels, forms stay -/
def qcM (A A' : Nat → Int → Nat) (nq nF nF' : Int) (FF FF' : Int → qFo) : Prop := nF ≤ nF' ∧ (∀ i j, 0 ≤ j → j < qcLN nq nF i → A' i j = A i j) ∧ ∀ r, 0 ≤ r → r < nF → FF' r = FF r
theorem qcLN_le {nq nF nF' : Int} (h : nF ≤ nF') : ∀ i, qcLN nq nF i ≤ qcLN nq nF' i
  | 0 => Int.le_refl _ | 1 => Int.le_refl _ | 2 => Int.le_refl _ | 3 => Int.le_refl _ | 4 => Int.le_refl _ | 5 => Int.le_refl _ | 6 => Int.le_refl _ | 7 => Int.le_refl _ | 8 => Int.le_refl _ | 9 => Int.le_refl _ | 10 => Int.le_refl _ | 11 => Int.le_refl _ | 12 => h | 13 => h | _ + 14 => Int.le_refl _
theorem qcM.refl {A : Nat → Int → Nat} {nq nF : Int} {FF : Int → qFo} : qcM A A nq nF nF FF FF := ⟨Int.le_refl _, fun _ _ _ _ => rfl, fun _ _ _ => rfl⟩
theorem qcM.tr {A A' A'' : Nat → Int → Nat} {nq nF nF' nF'' : Int} {FF FF' FF'' : Int → qFo} (h : qcM A A' nq nF nF' FF FF') (g : qcM A' A'' nq nF' nF'' FF' FF'') : qcM A A'' nq nF nF'' FF FF'' := ⟨Int.le_trans h.1 g.1, fun i j j0 j1 => (g.2.1 i j j0 (Int.lt_of_lt_of_le j1 (qcLN_le h.1 i))).trans (h.2.1 i j j0 j1), fun r r0 r1 => (g.2.2 r r0 (Int.lt_of_lt_of_le r1 h.1)).trans (h.2.2 r r0 r1)⟩
section
variable {kd : Nat → Nat} {an : Nat → Nat} {ai : Nat → Int → Int} {al : Nat → Int → Int} {ar : Nat → Int → Option Nat} {mX40_kinds : Nat → Option Nat} {mX40_lefts : Nat → Option Nat} {mX40_rights : Nat → Option Nat} {mX40_axioms : Nat → Int} {mX40_classFacts : Nat → Option Nat} {mX40_roleFacts : Nat → Option Nat} {mX40_facts : Nat → Int} {mX40_draft : Nat → Option Nat} {mX40_questions : Nat → Option Nat} {mX40_questionCount : Nat → Int} {mX40_forbidden : Nat → Option Nat} {mX40_given : Nat → Option Nat} {mX41_first : Nat → Int} {mX41_second : Nat → Int} {mX41_names : Nat → Option Nat} {mX41_from : Nat → Option Nat} {mX41_to : Nat → Option Nat} {mX41_n : Nat → Int} {mX41_codes : Nat → Option Nat} {mX41_least : Nat → Option Nat} {mX41_hasLeast : Nat → Int} {mX41_others : Nat → Option Nat} {mX41_otherCount : Nat → Int} {mX41_named : Nat → Option Nat} {mX62_answers : Nat → Int} {mX62_names : Nat → Option Nat} {mX62_from : Nat → Option Nat} {mX62_to : Nat → Option Nat} {mX62_n : Nat → Int} {mX62_forms : Nat → Option Nat} {mX62_count : Nat → Int} {mX62_large : Nat → Int} {mX62_known : Nat → Int} {mX85_first : Nat → Int} {mX85_second : Nat → Int} {mX85_codes : Nat → Option Nat} {A : Nat → Int → Nat} {G : Nat → Nat × Int} {nq nF na nf nQ : Int} {FF : Int → qFo} {qa qk kf lf rt cf rf sq sf ow : Int → Int} {ql : Int → List qA} {qS : Int → qSS} {j n k v oc i a b o f : Int} {l : List qA} {S : qSS} {MC MS : Nat}
/-- what the draft does leaves the room as it is -/
theorem qcR.dr {ai' : Nat → Int → Int} {mX41_first' mX41_second' mX41_n' mX41_hasLeast' mX41_otherCount' : Nat → Int} (H : qcR kd an ai al ar mX40_kinds mX40_lefts mX40_rights mX40_axioms mX40_classFacts mX40_roleFacts mX40_facts mX40_draft mX40_questions mX40_questionCount mX40_forbidden mX40_given mX41_first mX41_second mX41_names mX41_from mX41_to mX41_n mX41_codes mX41_least mX41_hasLeast mX41_others mX41_otherCount mX41_named mX62_answers mX62_names mX62_from mX62_to mX62_n mX62_forms mX62_count mX62_large mX62_known mX85_first mX85_second mX85_codes A G nq nF FF qa ql qS qk kf lf rt na cf rf nf nQ sq sf ow) (g : qcG (qcP A) 0 7 ai ai') : qcR kd an (ai') al ar mX40_kinds mX40_lefts mX40_rights mX40_axioms mX40_classFacts mX40_roleFacts mX40_facts mX40_draft mX40_questions mX40_questionCount mX40_forbidden mX40_given (mX41_first') (mX41_second') mX41_names mX41_from mX41_to (mX41_n') mX41_codes mX41_least (mX41_hasLeast') mX41_others (mX41_otherCount') mX41_named mX62_answers mX62_names mX62_from mX62_to mX62_n mX62_forms mX62_count mX62_large mX62_known mX85_first mX85_second mX85_codes A G nq nF FF qa ql qS qk kf lf rt na cf rf nf nQ sq sf ow := by
  obtain ⟨⟨HL, q0, f0⟩, Fl, D, HF, HQ, HX, HC, HS⟩ := H
  have o : ∀ i j, i ≠ 5 → 0 ≤ j → j < qcLN nq nF i → ai' (A i j) = ai (A i j) := fun i j h5 j0 j1 => g _ (fun k _ hk => HL.ne ⟨j0, j1⟩ ⟨by omega, show (k : Int) < 7 by omega⟩ (Or.inl h5))
  refine ⟨⟨HL, q0, f0⟩, Fl, D, fun r r0 r1 => (HF r r0 r1).tr rfl rfl rfl rfl rfl rfl (o 13 r (by decide) r0 r1), fun j j0 j1 => ⟨(HQ j j0 j1).1.tr rfl rfl rfl rfl rfl (o 10 _ (by decide) (by omega) (show _ < 3 * nq by omega)) (o 10 _ (by decide) (by omega) (show _ < 3 * nq by omega)) (o 10 _ (by decide) (by omega) (show _ < 3 * nq by omega)), (HQ j j0 j1).2⟩, HX.tr rfl rfl rfl rfl (o 2 0 (by decide) (by decide) (show (0 : Int) < 3 by decide)) (o 2 1 (by decide) (by decide) (show (1 : Int) < 3 by decide)) (o 2 2 (by decide) (by decide) (show (2 : Int) < 3 by decide)), HC.tr rfl rfl rfl (o 3 0 (by decide) (by decide) (show (0 : Int) < 1 by decide)) (o 4 0 (by decide) (by decide) (show (0 : Int) < 1 by decide)), HS⟩
/-- it is kept already, or there are too many -/
theorem qcR.set {qlg' : Nat → Int} (H : qcR kd an ai al ar mX40_kinds mX40_lefts mX40_rights mX40_axioms mX40_classFacts mX40_roleFacts mX40_facts mX40_draft mX40_questions mX40_questionCount mX40_forbidden mX40_given mX41_first mX41_second mX41_names mX41_from mX41_to mX41_n mX41_codes mX41_least mX41_hasLeast mX41_others mX41_otherCount mX41_named mX62_answers mX62_names mX62_from mX62_to mX62_n mX62_forms mX62_count mX62_large mX62_known mX85_first mX85_second mX85_codes A G nq nF FF qa ql qS qk kf lf rt na cf rf nf nQ sq sf ow) (hj : 0 ≤ j ∧ j < nq) (e : qlg' (A 9 j) = S.2) (eo : ∀ i, 0 ≤ i → i < nq → i ≠ j → qlg' (A 9 i) = mX62_large (A 9 i)) (e1 : S.1 = (qS j).1) (e2 : S.2 = 0 ∨ (S.2 = 1 ∧ S.1.length = 90)) : qcR kd an ai al ar mX40_kinds mX40_lefts mX40_rights mX40_axioms mX40_classFacts mX40_roleFacts mX40_facts mX40_draft mX40_questions mX40_questionCount mX40_forbidden mX40_given mX41_first mX41_second mX41_names mX41_from mX41_to mX41_n mX41_codes mX41_least mX41_hasLeast mX41_others mX41_otherCount mX41_named mX62_answers mX62_names mX62_from mX62_to mX62_n mX62_forms mX62_count (qlg') mX62_known mX85_first mX85_second mX85_codes A G nq nF FF qa ql (updI qS j S) qk kf lf rt na cf rf nf nQ sq sf ow := by
  obtain ⟨hb, Fl, D, HF, HQ, HX, HC, HS⟩ := H
  refine ⟨hb, Fl, D, HF, fun i i0 i1 => ⟨(HQ i i0 i1).1, ?_, (HQ i i0 i1).2.2⟩, HX, HC, HS⟩
  obtain ⟨h1, h2, h3, h4, h5⟩ := (HQ i i0 i1).2.1
  rw [updI_e]
  by_cases z : i = j
  · rw [if_pos z]
    rw [z] at h1 h2 h5 ⊢
    exact ⟨by rw [e1]; exact h1, by rw [e1]; exact h2, e, e2, by rw [e1]; exact h5⟩
  · rw [if_neg z]
    exact ⟨h1, h2, by rw [eo i i0 i1 z]; exact h3, h4, h5⟩
end
