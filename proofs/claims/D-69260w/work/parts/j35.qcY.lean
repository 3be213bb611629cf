/-! QlRewrite: what a call does, as functions on one state -/
/-- axioms; facts and how many; how many questions, their answers and atoms (variables 8 and up) -/
abbrev qrT : Type := ((Int → Int) × (Int → Int) × (Int → Int) × Int) × ((Int → Int → Int → Prop) × Int) × Int × (Int → Int) × (Int → List qA)
def qrCn (nQ : Int) (QA : Int → Int) : Int → Int := fun q => if 0 ≤ q ∧ q < nQ then QA q else 0
def qrCl (nQ : Int) (QL : Int → List qA) : Int → List qA := fun q => if 0 ≤ q ∧ q < nQ then QL q else []
def qrMk (kf lf rt : Int → Int) (na : Int) (Fa : Int → Int → Int → Prop) (nf nQ : Int) (QA : Int → Int) (QL : Int → List qA) : qrT := ((kf, lf, rt, na), (Fa, nf), nQ, qrCn nQ QA, qrCl nQ QL)
noncomputable def qqAxiom (k a b : Int) : qrT → Int × qrT
  | ((kf, lf, rt, na), R) => pif (qAc k a b) (if na = 16 then (-2, ((kf, lf, rt, na), R)) else (na, ((updI kf na k, updI lf na a, updI rt na b, na + 1), R))) (-1, ((kf, lf, rt, na), R))
def qrAd (Fa : Int → Int → Int → Prop) (C a B : Int) : Int → Int → Int → Prop := fun c u v => (c = C ∧ u = a ∧ v = B) ∨ Fa c u v
def qrRm (Fa : Int → Int → Int → Prop) (C a B : Int) : Int → Int → Int → Prop := fun c u v => Fa c u v ∧ ¬ (c = C ∧ u = a ∧ v = B)
noncomputable def qqFact (r w a b : Int) : qrT → Int × qrT
  | (X, (Fa, nf), Q) => pif (qFc r w a b) (pif (Fa (qCc r w) a (if r = 0 then 0 else b)) (0, (X, (Fa, nf), Q)) (if nf = 60 then (-2, (X, (Fa, nf), Q)) else (1, (X, (qrAd Fa (qCc r w) a (if r = 0 then 0 else b), nf + 1), Q)))) (-1, (X, (Fa, nf), Q))
noncomputable def qqForget (r w a b : Int) : qrT → Int × qrT
  | (X, (Fa, nf), Q) => pif (qFc r w a b) (pif (Fa (qCc r w) a (if r = 0 then 0 else b)) (1, (X, (qrRm Fa (qCc r w) a (if r = 0 then 0 else b), nf - 1), Q)) (0, (X, (Fa, nf), Q))) (-1, (X, (Fa, nf), Q))
def qqQuestion (v : Int) : qrT → Int × qrT
  | (X, F, nQ, QA, QL) => if 0 ≤ v ∧ v < 3 then (if nQ = 6 then (-2, (X, F, nQ, QA, QL)) else (nQ, (X, F, nQ + 1, updI QA nQ v, updI QL nQ []))) else (-1, (X, F, nQ, QA, QL))
noncomputable def qqAtom (q r w a b : Int) : qrT → Int × qrT
  | (X, F, nQ, QA, QL) => pif (qTc r q nQ w a b) (pif ((qCc r w, 8 + a, if r = 0 then 7 else 8 + b) ∈ QL q) (((QL q).length : Int), (X, F, nQ, QA, QL)) (if (QL q).length = 4 then (-2, (X, F, nQ, QA, QL)) else (((QL q).length : Int) + 1, (X, F, nQ, QA, updI QL q (QL q ++ [(qCc r w, 8 + a, if r = 0 then 7 else 8 + b)]))))) (-1, (X, F, nQ, QA, QL))
/-- what is told of a question, from its forms and the facts -/
noncomputable def qqTold (q : Int) (f : qSS → (Int → Int → Int → Prop) → Int) : qrT → Int
  | ((kf, lf, rt, na), (Fa, _), nQ, QA, QL) => qTl ((0 ≤ q ∧ q < nQ) ∧ ¬ QL q = []) (qcZ kf lf rt na (QA q) (QL q)) (f (qcZ kf lf rt na (QA q) (QL q)) Fa)
noncomputable def qqForms (q : Int) : qrT → Int := qqTold q (fun Z _ => (Z.1.length : Int))
noncomputable def qqForm (q i w : Int) : qrT → Int := qqTold q (fun Z _ => qFmA Z i w)
noncomputable def qqRun (q : Int) : qrT → Int := qqTold q (fun Z Fa => cntI (qAny Fa Z) 192)
noncomputable def qqAnswer (q i : Int) : qrT → Int := qqTold q (fun Z Fa => if 0 ≤ i then qNth (qAny Fa Z) i else -1)
noncomputable def qqWhy (q z : Int) : qrT → Int := qqTold q (fun Z Fa => if 0 ≤ z ∧ z < 192 then qWhy Fa Z z else -1)
noncomputable def qqBroken : qrT → Int
  | ((kf, lf, rt, na), (Fa, _), _) => qcBr kf lf rt na Fa na.toNat 0
def qqCount (w : Int) : qrT → Int
  | ((_, _, _, na), (_, nf), nQ, _) => if w = 0 then na else if w = 1 then nf else if w = 2 then nQ else -1
def qqClear : qrT → Int × qrT
  | (X, F, nQ, _) => (nQ, (X, F, 0, fun _ => 0, fun _ => []))
section
variable {kf lf rt QA QA' fn fa fb cf rf : Int → Int} {na nf nQ q v a b c r w s i : Int} {Fa : Int → Int → Int → Prop} {QL QL' : Int → List qA} {t : qA} {l : List qA} {f : qSS → (Int → Int → Int → Prop) → Int}
theorem qrCn_q (h : 0 ≤ q ∧ q < nQ) : qrCn nQ QA q = QA q := if_pos h
theorem qrCl_q (h : 0 ≤ q ∧ q < nQ) : qrCl nQ QL q = QL q := if_pos h
theorem qrMk_c (h : ∀ q, 0 ≤ q → q < nQ → QA q = QA' q ∧ QL q = QL' q) : qrMk kf lf rt na Fa nf nQ QA QL = qrMk kf lf rt na Fa nf nQ QA' QL' := by
  have e1 : qrCn nQ QA = qrCn nQ QA' := funext (fun q => by
    unfold qrCn
    by_cases z : 0 ≤ q ∧ q < nQ
    · rw [if_pos z, if_pos z, (h q z.1 z.2).1]
    · rw [if_neg z, if_neg z])
  have e2 : qrCl nQ QL = qrCl nQ QL' := funext (fun q => by
    unfold qrCl
    by_cases z : 0 ≤ q ∧ q < nQ
    · rw [if_pos z, if_pos z, (h q z.1 z.2).2]
    · rw [if_neg z, if_neg z])
  unfold qrMk
  rw [e1, e2]
theorem qqQuestion_1 (h : ¬ (0 ≤ v ∧ v < 3)) : qqQuestion v (qrMk kf lf rt na Fa nf nQ QA QL) = (-1, qrMk kf lf rt na Fa nf nQ QA QL) := if_neg h
theorem qqQuestion_2 (h : 0 ≤ v ∧ v < 3) (z : nQ = 6) : qqQuestion v (qrMk kf lf rt na Fa nf nQ QA QL) = (-2, qrMk kf lf rt na Fa nf nQ QA QL) := (if_pos h).trans (if_pos z)
theorem qqQuestion_3 (h : 0 ≤ v ∧ v < 3) (h0 : 0 ≤ nQ) (z : ¬ nQ = 6) (e : ∀ q, 0 ≤ q → q < nQ → QA' q = QA q ∧ QL' q = QL q) (e1 : QA' nQ = v) (e2 : QL' nQ = []) : qqQuestion v (qrMk kf lf rt na Fa nf nQ QA QL) = (nQ, qrMk kf lf rt na Fa nf (nQ + 1) QA' QL') := by
  have s : qqQuestion v (qrMk kf lf rt na Fa nf nQ QA QL) = (nQ, ((kf, lf, rt, na), (Fa, nf), nQ + 1, updI (qrCn nQ QA) nQ v, updI (qrCl nQ QL) nQ [])) := (if_pos h).trans (if_neg z)
  have a1 : updI (qrCn nQ QA) nQ v = qrCn (nQ + 1) QA' := funext (fun q => by
    unfold qrCn
    rw [updI_e]
    by_cases y : q = nQ
    · rw [if_pos y, y, if_pos (by omega), e1]
    · rw [if_neg y]
      by_cases x : 0 ≤ q ∧ q < nQ
      · rw [if_pos x, if_pos (by omega), (e q x.1 x.2).1]
      · rw [if_neg x, if_neg (by omega)])
  have a2 : updI (qrCl nQ QL) nQ [] = qrCl (nQ + 1) QL' := funext (fun q => by
    unfold qrCl
    rw [updI_e]
    by_cases y : q = nQ
    · rw [if_pos y, y, if_pos (by omega), e2]
    · rw [if_neg y]
      by_cases x : 0 ≤ q ∧ q < nQ
      · rw [if_pos x, if_pos (by omega), (e q x.1 x.2).2]
      · rw [if_neg x, if_neg (by omega)])
  rw [s, a1, a2]
  rfl
theorem qqAtom_1 (h : ¬ qTc r q nQ w a b) : qqAtom q r w a b (qrMk kf lf rt na Fa nf nQ QA QL) = (-1, qrMk kf lf rt na Fa nf nQ QA QL) := pif_f h
theorem qqAtom_2 (h : qTc r q nQ w a b) (m : (qCc r w, 8 + a, if r = 0 then 7 else 8 + b) ∈ QL q) : qqAtom q r w a b (qrMk kf lf rt na Fa nf nQ QA QL) = (((QL q).length : Int), qrMk kf lf rt na Fa nf nQ QA QL) := by
  have e := qrCl_q (QL := QL) h.1
  refine (pif_t h).trans ((pif_t (show _ ∈ qrCl nQ QL q by rw [e]; exact m)).trans ?_)
  rw [e]
  rfl
theorem qqAtom_3 (h : qTc r q nQ w a b) (m : ¬ (qCc r w, 8 + a, if r = 0 then 7 else 8 + b) ∈ QL q) (l4 : (QL q).length = 4) : qqAtom q r w a b (qrMk kf lf rt na Fa nf nQ QA QL) = (-2, qrMk kf lf rt na Fa nf nQ QA QL) := by
  have e := qrCl_q (QL := QL) h.1
  exact (pif_t h).trans ((pif_f (show ¬ _ ∈ qrCl nQ QL q by rw [e]; exact m)).trans (if_pos (by rw [e]; exact l4)))
theorem qqAtom_4 (h : qTc r q nQ w a b) (m : ¬ (qCc r w, 8 + a, if r = 0 then 7 else 8 + b) ∈ QL q) (l4 : (QL q).length < 4) (e : ∀ p, 0 ≤ p → p < nQ → QA' p = QA p) (e1 : ∀ p, 0 ≤ p → p < nQ → ¬ p = q → QL' p = QL p) (e2 : QL' q = QL q ++ [(qCc r w, 8 + a, if r = 0 then 7 else 8 + b)]) : qqAtom q r w a b (qrMk kf lf rt na Fa nf nQ QA QL) = (((QL q).length : Int) + 1, qrMk kf lf rt na Fa nf nQ QA' QL') := by
  have eq := qrCl_q (QL := QL) h.1
  have s : qqAtom q r w a b (qrMk kf lf rt na Fa nf nQ QA QL) = (((qrCl nQ QL q).length : Int) + 1, ((kf, lf, rt, na), (Fa, nf), nQ, qrCn nQ QA, updI (qrCl nQ QL) q (qrCl nQ QL q ++ [(qCc r w, 8 + a, if r = 0 then 7 else 8 + b)]))) := (pif_t h).trans ((pif_f (show ¬ _ ∈ qrCl nQ QL q by rw [eq]; exact m)).trans (if_neg (by rw [eq]; omega)))
  have a1 : qrCn nQ QA = qrCn nQ QA' := funext (fun p => by
    unfold qrCn
    by_cases z : 0 ≤ p ∧ p < nQ
    · rw [if_pos z, if_pos z, e p z.1 z.2]
    · rw [if_neg z, if_neg z])
  have a2 : updI (qrCl nQ QL) q (QL q ++ [(qCc r w, 8 + a, if r = 0 then 7 else 8 + b)]) = qrCl nQ QL' := funext (fun p => by
    unfold qrCl
    rw [updI_e]
    by_cases y : p = q
    · rw [if_pos y, y, if_pos h.1, e2]
    · rw [if_neg y]
      by_cases z : 0 ≤ p ∧ p < nQ
      · rw [if_pos z, if_pos z, e1 p z.1 z.2 y]
      · rw [if_neg z, if_neg z])
  rw [s, eq, a1, a2]
  rfl
theorem qqTold_e : qqTold q f (qrMk kf lf rt na Fa nf nQ QA QL) = qTl ((0 ≤ q ∧ q < nQ) ∧ ¬ QL q = []) (qcZ kf lf rt na (QA q) (QL q)) (f (qcZ kf lf rt na (QA q) (QL q)) Fa) := by
  show qTl ((0 ≤ q ∧ q < nQ) ∧ ¬ qrCl nQ QL q = []) (qcZ kf lf rt na (qrCn nQ QA q) (qrCl nQ QL q)) (f (qcZ kf lf rt na (qrCn nQ QA q) (qrCl nQ QL q)) Fa) = _
  by_cases z : 0 ≤ q ∧ q < nQ
  · rw [qrCl_q z, qrCn_q z]
  · unfold qTl
    rw [pif_f (fun h => z h.1), pif_f (fun h => z h.1)]
theorem qqClear_e : qqClear (qrMk kf lf rt na Fa nf nQ QA QL) = (nQ, qrMk kf lf rt na Fa nf 0 QA' QL') := by
  have a1 : (fun _ : Int => (0 : Int)) = qrCn 0 QA' := funext (fun p => (if_neg (by omega)).symm)
  have a2 : (fun _ : Int => ([] : List qA)) = qrCl 0 QL' := funext (fun p => (if_neg (by omega)).symm)
  show (nQ, ((kf, lf, rt, na), (Fa, nf), 0, (fun _ : Int => (0 : Int)), (fun _ : Int => ([] : List qA)))) = _
  rw [a1, a2]
  rfl
/-- the component's facts after one comes, or goes -/
theorem qrAd_c (h : qFc r w a b) : qcFa (qcSc cf r w a 1) (qcSr rf r w a b 1) = qrAd (qcFa cf rf) (qCc r w) a (if r = 0 then 0 else b) := funext fun c => funext fun u => funext fun v => propext (by
  obtain ⟨ha, h0, h1⟩ := h
  unfold qcFa qcSc qcSr qrAd qCc
  by_cases z : r = 0
  · have hw := h0 z
    rw [if_pos z, if_pos z, if_pos z, if_pos z, updI_e]
    by_cases y : 12 * c + u = 12 * w + a
    · rw [if_pos y]; omega
    · rw [if_neg y]; omega
  · have hw := h1 z
    rw [if_neg z, if_neg z, if_neg z, if_neg z, updI_e]
    by_cases y : 12 * (12 * (c - 32) + u) + v = 12 * (12 * w + a) + b
    · rw [if_pos y]; omega
    · rw [if_neg y]; omega)
theorem qrRm_c (h : qFc r w a b) : qcFa (qcSc cf r w a 0) (qcSr rf r w a b 0) = qrRm (qcFa cf rf) (qCc r w) a (if r = 0 then 0 else b) := funext fun c => funext fun u => funext fun v => propext (by
  obtain ⟨ha, h0, h1⟩ := h
  unfold qcFa qcSc qcSr qrRm qCc
  by_cases z : r = 0
  · have hw := h0 z
    rw [if_pos z, if_pos z, if_pos z, if_pos z, updI_e]
    by_cases y : 12 * c + u = 12 * w + a
    · rw [if_pos y]; omega
    · rw [if_neg y]; omega
  · have hw := h1 z
    rw [if_neg z, if_neg z, if_neg z, if_neg z, updI_e]
    by_cases y : 12 * (12 * (c - 32) + u) + v = 12 * (12 * w + a) + b
    · rw [if_pos y]; omega
    · rw [if_neg y]; omega)
/-- the reference's -/
theorem qrAd_r (h0 : 0 ≤ nf) : qFa (updI fn nf c) (updI fa nf a) (updI fb nf b) (nf + 1) = qrAd (qFa fn fa fb nf) c a b := funext fun c' => funext fun u => funext fun v => propext (by
  unfold qFa qrAd
  constructor
  · rintro ⟨r, hr, e1, e2, e3⟩
    by_cases z : r = nf
    · rw [z, updI_s] at e1 e2 e3
      exact Or.inl ⟨e1.symm, e2.symm, e3.symm⟩
    · rw [updI_n z] at e1 e2 e3
      exact Or.inr ⟨r, by omega, e1, e2, e3⟩
  · rintro (⟨e1, e2, e3⟩ | ⟨r, hr, e1, e2, e3⟩)
    · refine ⟨nf, by omega, ?_, ?_, ?_⟩
      · rw [updI_s]; exact e1.symm
      · rw [updI_s]; exact e2.symm
      · rw [updI_s]; exact e3.symm
    · have z : ¬ r = nf := by omega
      refine ⟨r, by omega, ?_, ?_, ?_⟩
      · rw [updI_n z]; exact e1
      · rw [updI_n z]; exact e2
      · rw [updI_n z]; exact e3)
theorem qrRm_r (D : qFd fn fa fb nf) (hs : 0 ≤ s ∧ s < nf) (e1 : fn s = c) (e2 : fa s = a) (e3 : fb s = b) : qFa (updI fn s (fn (nf - 1))) (updI fa s (fa (nf - 1))) (updI fb s (fb (nf - 1))) (nf - 1) = qrRm (qFa fn fa fb nf) c a b := funext fun c' => funext fun u => funext fun v => propext (by
  unfold qFa qrRm
  constructor
  · rintro ⟨r, hr, g1, g2, g3⟩
    by_cases z : r = s
    · rw [z, updI_s] at g1 g2 g3
      refine ⟨⟨nf - 1, by omega, g1, g2, g3⟩, fun w => D s (nf - 1) hs.1 (by omega) (by omega) ⟨?_, ?_, ?_⟩⟩
      · rw [e1, g1]; exact w.1.symm
      · rw [e2, g2]; exact w.2.1.symm
      · rw [e3, g3]; exact w.2.2.symm
    · rw [updI_n z] at g1 g2 g3
      refine ⟨⟨r, by omega, g1, g2, g3⟩, fun w => ?_⟩
      have q : fn r = fn s ∧ fa r = fa s ∧ fb r = fb s := ⟨by rw [g1, e1]; exact w.1, by rw [g2, e2]; exact w.2.1, by rw [g3, e3]; exact w.2.2⟩
      rcases Int.lt_or_gt_of_ne z with l | l
      · exact D r s hr.1 l hs.2 q
      · exact D s r hs.1 l (by omega) ⟨q.1.symm, q.2.1.symm, q.2.2.symm⟩
  · rintro ⟨⟨r, hr, g1, g2, g3⟩, ne⟩
    by_cases z : r = nf - 1
    · by_cases y : s = nf - 1
      · refine absurd ⟨?_, ?_, ?_⟩ ne
        · rw [← g1, z, ← y]; exact e1
        · rw [← g2, z, ← y]; exact e2
        · rw [← g3, z, ← y]; exact e3
      · refine ⟨s, by omega, ?_, ?_, ?_⟩
        · rw [updI_s, ← z]; exact g1
        · rw [updI_s, ← z]; exact g2
        · rw [updI_s, ← z]; exact g3
    · have y : ¬ r = s := fun y => ne ⟨by rw [← g1, y]; exact e1, by rw [← g2, y]; exact e2, by rw [← g3, y]; exact e3⟩
      refine ⟨r, by omega, ?_, ?_, ?_⟩
      · rw [updI_n y]; exact g1
      · rw [updI_n y]; exact g2
      · rw [updI_n y]; exact g3)
theorem qFd.ad (D : qFd fn fa fb nf) (h : ¬ qFa fn fa fb nf c a b) : qFd (updI fn nf c) (updI fa nf a) (updI fb nf b) (nf + 1) := fun i j i0 ij j1 => by
  rw [updI_n (show ¬ i = nf by omega), updI_n (show ¬ i = nf by omega), updI_n (show ¬ i = nf by omega)]
  by_cases z : j = nf
  · rw [z, updI_s, updI_s, updI_s]
    exact fun w => h ⟨i, by omega, w⟩
  · rw [updI_n z, updI_n z, updI_n z]
    exact D i j i0 ij (by omega)
theorem qFd.rm (D : qFd fn fa fb nf) (hs : 0 ≤ s ∧ s < nf) : qFd (updI fn s (fn (nf - 1))) (updI fa s (fa (nf - 1))) (updI fb s (fb (nf - 1))) (nf - 1) := fun i j i0 ij j1 => by
  by_cases zi : i = s
  · have zj : ¬ j = s := by omega
    rw [zi, updI_s, updI_s, updI_s, updI_n zj, updI_n zj, updI_n zj]
    exact fun w => D j (nf - 1) (by omega) (by omega) (by omega) ⟨w.1.symm, w.2.1.symm, w.2.2.symm⟩
  · rw [updI_n zi, updI_n zi, updI_n zi]
    by_cases zj : j = s
    · rw [zj, updI_s, updI_s, updI_s]
      exact D i (nf - 1) i0 (by omega) (by omega)
    · rw [updI_n zj, updI_n zj, updI_n zj]
      exact D i j i0 ij (by omega)
theorem qFI.ad (I : qFI fn fa fb nf) (hn : nf < 60) (ha : 0 ≤ a ∧ a < 12) (hb : 0 ≤ b ∧ b < 12) : qFI (updI fn nf c) (updI fa nf a) (updI fb nf b) (nf + 1) := ⟨by have := I.1; omega, fun r r0 r1 => by
  by_cases z : r = nf
  · rw [z, updI_s, updI_s]
    exact ⟨ha, hb⟩
  · rw [updI_n z, updI_n z]
    exact I.2 r r0 (by omega)⟩
theorem qFI.rm (I : qFI fn fa fb nf) (hs : 0 ≤ s ∧ s < nf) : qFI (updI fn s (fn (nf - 1))) (updI fa s (fa (nf - 1))) (updI fb s (fb (nf - 1))) (nf - 1) := ⟨by have := I.1; omega, fun r r0 r1 => by
  by_cases z : r = s
  · rw [z, updI_s, updI_s]
    exact I.2 (nf - 1) (by omega) (by omega)
  · rw [updI_n z, updI_n z]
    exact I.2 r r0 (by omega)⟩
end
