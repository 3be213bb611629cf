/-! QlRewrite (room QR): the face that asks -/
theorem qcA0 {an : Int} : ((if an ≤ 0 then (-1 : Int) else 8) < 0 ↔ an ≤ 0) ∧ ((if an ≤ 1 then (-1 : Int) else 9) < 0 ↔ an ≤ 1) := by
  constructor
  · by_cases h : an ≤ 0
    · rw [if_pos h]; exact ⟨fun _ => h, fun _ => by decide⟩
    · rw [if_neg h]; exact ⟨fun w => absurd w (by decide), fun w => absurd w h⟩
  · by_cases h : an ≤ 1
    · rw [if_pos h]; exact ⟨fun _ => h, fun _ => by decide⟩
    · rw [if_neg h]; exact ⟨fun w => absurd w (by decide), fun w => absurd w h⟩
section
variable {kf lf rt : Int → Int} {na q a b i j k : Int} {S : qSS} {f F : qFo} {D : qDr}
theorem qcAq_f (ha : a < 0 ↔ q ≤ 0) (hb : b < 0 ↔ q ≤ 1) {d : List Int} : qcAq q (qOn a, qTw a b, d) := by
  unfold qcAq qOn qTw
  dsimp only
  refine ⟨?_, ?_, ?_, ?_⟩
  · rw [← ha]; split <;> omega
  · rw [← hb]
    split
    · omega
    · split <;> omega
  · split <;> omega
  · split
    · omega
    · split <;> omega
theorem qKp_q (h : ∀ F ∈ S.1, qcAq q F) (hf : qcAq q f) : ∀ F ∈ (qKp S f).1, qcAq q F := by
  unfold qKp
  by_cases z : f ∈ S.1
  · rw [pif_t z]; exact h
  · rw [pif_f z]
    split
    · exact h
    · intro F hF
      rcases List.mem_append.1 hF with w | w
      · exact h F w
      · rw [List.mem_singleton.1 w]; exact hf
def qcNn (D : qDr) : Prop := ∀ k, 0 ≤ (D.2.2 k).2.1 ∧ 0 ≤ (D.2.2 k).2.2
theorem qcNn_d {o g : Int} (h : qcNn D) (ho : 0 ≤ o) (hg : 0 ≤ g) : qcNn (qRd o g D) ∧ ((qRd o g D).1 < 0 ↔ D.1 < 0) ∧ ((qRd o g D).2.1 < 0 ↔ D.2.1 < 0) := by
  have e : ∀ v, (qRv o g v < 0 ↔ v < 0) := fun v => by
    unfold qRv
    split
    · omega
    · exact Iff.rfl
  refine ⟨fun k => ?_, e _, e _⟩
  have := h k
  have e1 := e (D.2.2 k).2.1
  have e2 := e (D.2.2 k).2.2
  show 0 ≤ qRv o g (D.2.2 k).2.1 ∧ 0 ≤ qRv o g (D.2.2 k).2.2
  omega
theorem qcNn_u {t : Int} {s : qA} (h : qcNn D) (hs : 0 ≤ s.2.1 ∧ 0 ≤ s.2.2) : qcNn (D.1, D.2.1, updI D.2.2 t s) := fun k => by
  show 0 ≤ (updI D.2.2 t s k).2.1 ∧ 0 ≤ (updI D.2.2 t s k).2.2
  rw [updI_e]
  split
  · exact hs
  · exact h k
theorem qcNn_F (h : qcNn D) : qcNn (qMF i j D) ∧ ((qMF i j D).1 < 0 ↔ D.1 < 0) ∧ ((qMF i j D).2.1 < 0 ↔ D.2.1 < 0) := by
  have hi := h i
  have hj := h j
  unfold qMF
  split
  · exact ⟨qcNn_u h ⟨hj.1, hi.2⟩, Iff.rfl, Iff.rfl⟩
  · split
    · exact ⟨qcNn_u h ⟨hi.1, hj.2⟩, Iff.rfl, Iff.rfl⟩
    · split
      · exact ⟨h, Iff.rfl, Iff.rfl⟩
      · split
        · exact qcNn_d h hj.1 hi.1
        · exact qcNn_d h hi.1 hj.1
theorem qcNn_T (h : qcNn D) : qcNn (qMT i j D) ∧ ((qMT i j D).1 < 0 ↔ D.1 < 0) ∧ ((qMT i j D).2.1 < 0 ↔ D.2.1 < 0) := by
  have hi := h i
  have hj := h j
  unfold qMT
  split
  · exact ⟨qcNn_u h ⟨hi.1, hj.2⟩, Iff.rfl, Iff.rfl⟩
  · split
    · exact ⟨qcNn_u h ⟨hj.1, hi.2⟩, Iff.rfl, Iff.rfl⟩
    · split
      · exact ⟨h, Iff.rfl, Iff.rfl⟩
      · split
        · exact qcNn_d h hj.2 hi.2
        · exact qcNn_d h hi.2 hj.2
theorem qAx_q {kx L Rr : Int} (h : ∀ F ∈ S.1, qcAq q F) (hf : qcAq q f) : ∀ F ∈ (qAx kx L Rr f k S).1, qcAq q F := by
  unfold qAx qFin
  split
  · split
    · exact h
    · exact qKp_q h (qcAq_f hf.1 hf.2.1)
  · split
    · split
      · exact qKp_q h (qcAq_f hf.1 hf.2.1)
      · exact h
    · exact h
theorem qJn_q (h : ∀ F ∈ S.1, qcAq q F) (hf : qcAq q f) : ∀ F ∈ (qJn f i j S).1, qcAq q F := by
  unfold qJn qFin
  split
  · have n0 : qcNn (f.1, f.2.1, qAk f) := fun k => by
      show 0 ≤ f.2.2.getD k.toNat 0 / 8 % 8 ∧ 0 ≤ f.2.2.getD k.toNat 0 % 8
      omega
    have n1 := qcNn_F (i := i) (j := j) n0
    have n2 := qcNn_T (i := i) (j := j) n1.1
    exact qKp_q h (qcAq_f (n2.2.1.trans (n1.2.1.trans hf.1)) (n2.2.2.trans (n1.2.2.trans hf.2.1)))
  · exact h
theorem qX_q (hf : qcAq q f) : ∀ (p : Nat) (x : Int) (S : qSS), (∀ F ∈ S.1, qcAq q F) → ∀ F ∈ (qX kf lf rt f k p x S).1, qcAq q F
  | 0, _, _, h => h
  | p + 1, x, S, h => qX_q hf p (x + 1) _ (qAx_q h hf)
theorem qY_q (hf : qcAq q f) : ∀ (p : Nat) (k : Int) (S : qSS), (∀ F ∈ S.1, qcAq q F) → ∀ F ∈ (qY kf lf rt na f p k S).1, qcAq q F
  | 0, _, _, h => h
  | p + 1, k, S, h => qY_q hf p (k + 1) _ (qX_q hf _ _ _ h)
theorem qJ1_q (hf : qcAq q f) : ∀ (p : Nat) (j : Int) (S : qSS), (∀ F ∈ S.1, qcAq q F) → ∀ F ∈ (qJ1 f i p j S).1, qcAq q F
  | 0, _, _, h => h
  | p + 1, j, S, h => qJ1_q hf p (j + 1) _ (qJn_q h hf)
theorem qJ2_q (hf : qcAq q f) : ∀ (p : Nat) (i : Int) (S : qSS), (∀ F ∈ S.1, qcAq q F) → ∀ F ∈ (qJ2 f p i S).1, qcAq q F
  | 0, _, _, h => h
  | p + 1, i, S, h => qJ2_q hf p (i + 1) _ (qJ1_q hf _ _ _ h)
theorem qZ_q : ∀ (p : Nat) (i : Int) (S : qSS), 0 ≤ i → (∀ F ∈ S.1, qcAq q F) → ∀ F ∈ (qZ kf lf rt na p i S).1, qcAq q F
  | 0, _, _, _, h => h
  | p + 1, i, S, h0, h => by
    rw [qZ]
    split
    · rename_i w
      have hf := h _ (gD_mem (l := S.1) (t := i.toNat) (d := (0, 0, [])) (by omega))
      exact qZ_q p (i + 1) _ (by omega) (qJ2_q hf _ _ _ (qY_q hf _ _ _ h))
    · exact h
theorem qcZ_q {l : List qA} : ∀ F ∈ (qcZ kf lf rt na q l).1, qcAq q F :=
  qZ_q 91 0 _ (by decide) (qKp_q (fun F hF => absurd hF (by simp)) (qcAq_f qcA0.1 qcA0.2))
end
/-- what is made is made of the axioms -/
def qcK (nq na : Int) (kf lf rt qa : Int → Int) (ql : Int → List qA) (qS : Int → qSS) (qk : Int → Int) : Prop := ∀ j, 0 ≤ j → j < nq → qk j ≤ na ∧ (qk j = na → qS j = qcZ kf lf rt na (qa j) (ql j))
/-- a question that forbids -/
def qcLa (kx v k : Int) : qA := if kx = 2 ∧ v < 20 then (v, 0, 7) else (32 + (if kx = 2 then (v - 20) / 2 else v / 2), if v % 2 = 0 then 0 else if kx = 2 then 1 + k else 1, if v % 2 = 0 then (if kx = 2 then 1 + k else 1) else 0)
def qcLy (kx L Rr : Int) : List qA := if ¬ (kx = 2 ∧ Rr < 20) ∧ qcLa kx L 0 = qcLa kx Rr 1 then [qcLa kx L 0] else [qcLa kx L 0, qcLa kx Rr 1]
/-- THE ROOM'S INVARIANT -/
def qcRm (kd : Nat → Nat) (an : Nat → Nat) (ai : Nat → Int → Int) (al : Nat → Int → Int) (ar : Nat → Int → Option Nat) (mX40_kinds : Nat → Option Nat) (mX40_lefts : Nat → Option Nat) (mX40_rights : Nat → Option Nat) (mX40_axioms : Nat → Int) (mX40_classFacts : Nat → Option Nat) (mX40_roleFacts : Nat → Option Nat) (mX40_facts : Nat → Int) (mX40_draft : Nat → Option Nat) (mX40_questions : Nat → Option Nat) (mX40_questionCount : Nat → Int) (mX40_forbidden : Nat → Option Nat) (mX40_given : Nat → Option Nat) (mX41_first : Nat → Int) (mX41_second : Nat → Int) (mX41_names : Nat → Option Nat) (mX41_from : Nat → Option Nat) (mX41_to : Nat → Option Nat) (mX41_n : Nat → Int) (mX41_codes : Nat → Option Nat) (mX41_least : Nat → Option Nat) (mX41_hasLeast : Nat → Int) (mX41_others : Nat → Option Nat) (mX41_otherCount : Nat → Int) (mX41_named : Nat → Option Nat) (mX62_answers : Nat → Int) (mX62_names : Nat → Option Nat) (mX62_from : Nat → Option Nat) (mX62_to : Nat → Option Nat) (mX62_n : Nat → Int) (mX62_forms : Nat → Option Nat) (mX62_count : Nat → Int) (mX62_large : Nat → Int) (mX62_known : Nat → Int) (mX85_first : Nat → Int) (mX85_second : Nat → Int) (mX85_codes : Nat → Option Nat) (x : Nat) (kf lf rt : Int → Int) (na : Int) (cf rf : Int → Int) (nf nQ : Int) (QA : Int → Int) (QL : Int → List qA) : Prop := ∃ (A : Nat → Int → Nat) (G : Nat → Nat × Int) (nq nF : Int) (FF : Int → qFo) (qa : Int → Int) (ql : Int → List qA) (qS : Int → qSS) (qk sq sf ow : Int → Int), A 0 0 = x ∧ qcR kd an ai al ar mX40_kinds mX40_lefts mX40_rights mX40_axioms mX40_classFacts mX40_roleFacts mX40_facts mX40_draft mX40_questions mX40_questionCount mX40_forbidden mX40_given mX41_first mX41_second mX41_names mX41_from mX41_to mX41_n mX41_codes mX41_least mX41_hasLeast mX41_others mX41_otherCount mX41_named mX62_answers mX62_names mX62_from mX62_to mX62_n mX62_forms mX62_count mX62_large mX62_known mX85_first mX85_second mX85_codes A G nq nF FF qa ql qS qk kf lf rt na cf rf nf nQ sq sf ow ∧ qcK nq na kf lf rt qa ql qS qk ∧ (∀ q, 0 ≤ q → q < nQ → qa (sq q) = QA q ∧ ql (sq q) = QL q) ∧ ∀ y, 0 ≤ y → y < na → 2 ≤ kf y → qa (sf y) = 0 ∧ ql (sf y) = qcLy (kf y) (lf y) (rt y)
section
variable {kd : Nat → Nat} {an : Nat → Nat} {ai : Nat → Int → Int} {al : Nat → Int → Int} {ar : Nat → Int → Option Nat} {mX40_kinds : Nat → Option Nat} {mX40_lefts : Nat → Option Nat} {mX40_rights : Nat → Option Nat} {mX40_axioms : Nat → Int} {mX40_classFacts : Nat → Option Nat} {mX40_roleFacts : Nat → Option Nat} {mX40_facts : Nat → Int} {mX40_draft : Nat → Option Nat} {mX40_questions : Nat → Option Nat} {mX40_questionCount : Nat → Int} {mX40_forbidden : Nat → Option Nat} {mX40_given : Nat → Option Nat} {mX41_first : Nat → Int} {mX41_second : Nat → Int} {mX41_names : Nat → Option Nat} {mX41_from : Nat → Option Nat} {mX41_to : Nat → Option Nat} {mX41_n : Nat → Int} {mX41_codes : Nat → Option Nat} {mX41_least : Nat → Option Nat} {mX41_hasLeast : Nat → Int} {mX41_others : Nat → Option Nat} {mX41_otherCount : Nat → Int} {mX41_named : Nat → Option Nat} {mX62_answers : Nat → Int} {mX62_names : Nat → Option Nat} {mX62_from : Nat → Option Nat} {mX62_to : Nat → Option Nat} {mX62_n : Nat → Int} {mX62_forms : Nat → Option Nat} {mX62_count : Nat → Int} {mX62_large : Nat → Int} {mX62_known : Nat → Int} {mX85_first : Nat → Int} {mX85_second : Nat → Int} {mX85_codes : Nat → Option Nat} {A : Nat → Int → Nat} {G : Nat → Nat × Int} {nq nF na nf nQ : Int} {FF : Int → qFo} {qa qk kf lf rt cf rf sq sf ow : Int → Int} {ql : Int → List qA} {qS : Int → qSS} {QA : Int → Int} {QL : Int → List qA} {x : Nat} {j n k v oc i a b o f y r pl fl q w z : Int} {l : List qA} {S : qSS} {MC MS : Nat} {F : qFo}
theorem qcO.up {ai1 : Nat → Int → Int} (h : qcO A ai ai1) : ai1 = va_up ai (A 8 0) (ai1 (A 8 0)) := funext fun b => by
  by_cases z : b = A 8 0
  · rw [z, va_up_self]
  · rw [va_up_ne _ _ z]; exact h b z
theorem qcR.qst (H : qcR kd an ai al ar mX40_kinds mX40_lefts mX40_rights mX40_axioms mX40_classFacts mX40_roleFacts mX40_facts mX40_draft mX40_questions mX40_questionCount mX40_forbidden mX40_given mX41_first mX41_second mX41_names mX41_from mX41_to mX41_n mX41_codes mX41_least mX41_hasLeast mX41_others mX41_otherCount mX41_named mX62_answers mX62_names mX62_from mX62_to mX62_n mX62_forms mX62_count mX62_large mX62_known mX85_first mX85_second mX85_codes A G nq nF FF qa ql qS qk kf lf rt na cf rf nf nQ sq sf ow) (hq : 0 ≤ q ∧ q < nQ) : mX40_questions (A 0 0) = some (A 6 0) ∧ kd (A 6 0) = 7 ∧ an (A 6 0) = 6 ∧ ar (A 6 0) q = some (A 9 (sq q)) ∧ kd (A 9 (sq q)) = 3 ∧ 0 ≤ sq q ∧ sq q < nq := by
  obtain ⟨⟨HL, q0, f0_⟩, Fl, D, HF, HQ, HX, HC, HS⟩ := H
  have h := HL 6 0 (by decide) (show (0 : Int) < 1 by decide)
  obtain ⟨h1, h2, h3⟩ := HS.2.1 q hq.1 hq.2
  exact ⟨Fl.2.2.2.1, h.2.1.1, h.2.2 (by decide), h1, (HL 9 _ h2.1 (show sq q < nq from h2.2)).2.1.1, h2⟩
theorem qcR.n0 (H : qcR kd an ai al ar mX40_kinds mX40_lefts mX40_rights mX40_axioms mX40_classFacts mX40_roleFacts mX40_facts mX40_draft mX40_questions mX40_questionCount mX40_forbidden mX40_given mX41_first mX41_second mX41_names mX41_from mX41_to mX41_n mX41_codes mX41_least mX41_hasLeast mX41_others mX41_otherCount mX41_named mX62_answers mX62_names mX62_from mX62_to mX62_n mX62_forms mX62_count mX62_large mX62_known mX85_first mX85_second mX85_codes A G nq nF FF qa ql qS qk kf lf rt na cf rf nf nQ sq sf ow) (hj : 0 ≤ j ∧ j < nq) : mX62_n (A 9 j) = 0 ↔ ql j = [] := by
  obtain ⟨_, _, _, _, HQ, _⟩ := H
  obtain ⟨_, _, n4, el, _⟩ := (HQ j hj.1 hj.2).1
  rw [← el]
  constructor
  · intro h
    rw [h]; rfl
  · intro h
    have := congrArg List.length h
    rw [aF_len, List.length_nil] at this
    omega
theorem CQR_ready {post : Int → (Nat → Nat) → (Nat → Nat) → (Nat → Int → Int) → (Nat → Int → Option Nat) → (Nat → Int) → (Nat → Int) → (Nat → Int) → (Nat → Int) → (Nat → Int) → (Nat → Int) → (Nat → Int) → (Nat → Int) → (Nat → Int) → (Nat → Int) → (Nat → Option Nat) → Prop} (H : qcR kd an ai al ar mX40_kinds mX40_lefts mX40_rights mX40_axioms mX40_classFacts mX40_roleFacts mX40_facts mX40_draft mX40_questions mX40_questionCount mX40_forbidden mX40_given mX41_first mX41_second mX41_names mX41_from mX41_to mX41_n mX41_codes mX41_least mX41_hasLeast mX41_others mX41_otherCount mX41_named mX62_answers mX62_names mX62_from mX62_to mX62_n mX62_forms mX62_count mX62_large mX62_known mX85_first mX85_second mX85_codes A G nq nF FF qa ql qS qk kf lf rt na cf rf nf nQ sq sf ow) (K : qcK nq na kf lf rt qa ql qS qk) (bC : 180 ≤ MC) (bS : 630 ≤ MS) (hp0 : ¬ ((0 ≤ q ∧ q < nQ) ∧ ¬ ql (sq q) = []) → post (-1) kd an ai ar mX41_first mX41_second mX41_n mX41_hasLeast mX41_otherCount mX62_count mX62_large mX62_known mX85_first mX85_second mX85_codes)
  (hp1 : (0 ≤ q ∧ q < nQ) → ¬ ql (sq q) = [] → ∀ kd' an' ai' ar' fi' se' n' hl' oc' qc' qlg' kn' f1' f2' cd' A' G' nF' FF', qcM A A' nq nF nF' FF FF' → qcR (kd') (an') (ai') al (ar') mX40_kinds mX40_lefts mX40_rights mX40_axioms mX40_classFacts mX40_roleFacts mX40_facts mX40_draft mX40_questions mX40_questionCount mX40_forbidden mX40_given (fi') (se') mX41_names mX41_from mX41_to (n') mX41_codes mX41_least (hl') mX41_others (oc') mX41_named mX62_answers mX62_names mX62_from mX62_to mX62_n mX62_forms (qc') (qlg') (kn') (f1') (f2') (cd') A' G' nq nF' FF' qa ql (updI qS (sq q) (qcZ kf lf rt na (qa (sq q)) (ql (sq q)))) (updI qk (sq q) na) kf lf rt na cf rf nf nQ sq sf ow → qcK nq na kf lf rt qa ql (updI qS (sq q) (qcZ kf lf rt na (qa (sq q)) (ql (sq q)))) (updI qk (sq q) na) → post (if (qcZ kf lf rt na (qa (sq q)) (ql (sq q))).2 = 0 then 0 else -3) kd' an' ai' ar' fi' se' n' hl' oc' qc' qlg' kn' f1' f2' cd') : wpQR_X40_ready MC MS post kd an ai ar mX40_kinds mX40_lefts mX40_rights mX40_axioms mX40_draft mX40_questions mX40_questionCount mX41_first mX41_second mX41_names mX41_from mX41_to mX41_n mX41_codes mX41_least mX41_hasLeast mX41_others mX41_otherCount mX41_named mX62_answers mX62_names mX62_from mX62_to mX62_n mX62_forms mX62_count mX62_large mX62_known mX85_first mX85_second mX85_codes (A 0 0) q := by
  have H0 := H
  obtain ⟨⟨HL, q0, f0_⟩, Fl, D, HF, HQ, HX, HC, HS⟩ := H
  have enq := HS.1.1
  unfold wpQR_X40_ready wpQR_X40_isQuestion wpQR_X40_isIn
  rw [enq]
  have bad : ¬ (0 ≤ q ∧ q < nQ) → ∀ P : Prop, ((0 : Int) = 0 → 0 ≤ MC ∧ 0 ≤ MS ∧ post (-1) kd an ai ar mX41_first mX41_second mX41_n mX41_hasLeast mX41_otherCount mX62_count mX62_large mX62_known mX85_first mX85_second mX85_codes) ∧ (¬ (0 : Int) = 0 → P) := fun h P => ⟨fun _ => ⟨by omega, by omega, hp0 (fun w => h w.1)⟩, fun w => absurd rfl w⟩
  refine ⟨⟨by omega, by omega⟩, fun w => ⟨Or.inl rfl, bad (by omega) _⟩, fun w => ⟨fun w2 => ⟨Or.inl rfl, bad (by omega) _⟩, fun w2 => ⟨Or.inr rfl, fun w3 => absurd w3 (by decide), fun _ => ?_⟩⟩⟩
  have hq : 0 ≤ q ∧ q < nQ := by omega
  obtain ⟨g1, g2, g3, g4, g5, g6⟩ := H0.qst hq
  have n0 := H0.n0 g6
  have n4 := (HQ (sq q) g6.1 g6.2).1.2.2.1
  obtain ⟨kl, kz⟩ := K (sq q) g6.1 g6.2
  refine kOn_of g1 ⟨g2, by rw [g3]; have := HS.1.2; omega, fun r1 e1 => ?_⟩
  rw [g4] at e1
  rw [e1]
  refine kOn_some ⟨g5, fun z => ⟨by omega, by omega, hp0 (fun w => w.2 (n0.1 z))⟩, fun z r2 e2 => ?_⟩
  rw [g4] at e2
  rw [e2]
  refine ⟨MC, MS, ⟨by omega, by omega⟩, CQR_make H0 g6 (by omega) kz bC bS (fun kd' an' ai' ar' fi' se' n' hl' oc' qc' qlg' kn' f1' f2' cd' A' G' nF' FF' M R' le => ?_)⟩
  have l6 := le (A 6 0) (by rw [g2]; decide)
  have e60 : A' 6 0 = A 6 0 := M.2.1 6 0 (by decide) (show (0 : Int) < 1 by decide)
  obtain ⟨h1, h2, h3, h4, h5, _⟩ := R'.qst hq
  rw [e60] at h4
  have K' : qcK nq na kf lf rt qa ql (updI qS (sq q) (qcZ kf lf rt na (qa (sq q)) (ql (sq q)))) (updI qk (sq q) na) := fun i i0 i1 => by
    rw [updI_e, updI_e]
    by_cases y : i = sq q
    · rw [if_pos y, if_pos y, y]; exact ⟨Int.le_refl _, fun _ => rfl⟩
    · rw [if_neg y, if_neg y]; exact K i i0 i1
  have P := hp1 hq (fun w => z (n0.2 w)) _ _ _ _ _ _ _ _ _ _ _ _ _ _ _ A' G' nF' FF' M R' K'
  have lg : qlg' (A' 9 (sq q)) = (qcZ kf lf rt na (qa (sq q)) (ql (sq q))).2 := by
    obtain ⟨_, _, _, _, HQ', _⟩ := R'
    have := (HQ' (sq q) g6.1 g6.2).2.1.2.2.1
    rw [updI_s] at this
    exact this
  refine ⟨by rw [l6.2, g3]; have := HS.1.2; omega, fun r3 e3 => ?_⟩
  rw [h4] at e3
  rw [e3]
  refine kOn_some ⟨h5, fun y => ⟨by omega, by omega, ?_⟩, fun y => ⟨by omega, by omega, ?_⟩⟩
  · rw [lg] at y
    rw [if_pos y] at P; exact P
  · rw [lg] at y
    rw [if_neg y] at P; exact P
theorem CQR_forms {post : Int → (Nat → Nat) → (Nat → Nat) → (Nat → Int → Int) → (Nat → Int → Option Nat) → (Nat → Int) → (Nat → Int) → (Nat → Int) → (Nat → Int) → (Nat → Int) → (Nat → Int) → (Nat → Int) → (Nat → Int) → (Nat → Int) → (Nat → Int) → (Nat → Option Nat) → Prop} (Rm : qcRm kd an ai al ar mX40_kinds mX40_lefts mX40_rights mX40_axioms mX40_classFacts mX40_roleFacts mX40_facts mX40_draft mX40_questions mX40_questionCount mX40_forbidden mX40_given mX41_first mX41_second mX41_names mX41_from mX41_to mX41_n mX41_codes mX41_least mX41_hasLeast mX41_others mX41_otherCount mX41_named mX62_answers mX62_names mX62_from mX62_to mX62_n mX62_forms mX62_count mX62_large mX62_known mX85_first mX85_second mX85_codes x kf lf rt na cf rf nf nQ QA QL) (bC : 180 ≤ MC) (bS : 630 ≤ MS) (hp : ∀ kd' an' ai' ar' fi' se' n' hl' oc' qc' qlg' kn' f1' f2' cd', qcRm (kd') (an') (ai') al (ar') mX40_kinds mX40_lefts mX40_rights mX40_axioms mX40_classFacts mX40_roleFacts mX40_facts mX40_draft mX40_questions mX40_questionCount mX40_forbidden mX40_given (fi') (se') mX41_names mX41_from mX41_to (n') mX41_codes mX41_least (hl') mX41_others (oc') mX41_named mX62_answers mX62_names mX62_from mX62_to mX62_n mX62_forms (qc') (qlg') (kn') (f1') (f2') (cd') x kf lf rt na cf rf nf nQ QA QL → post (qTl ((0 ≤ q ∧ q < nQ) ∧ ¬ QL q = []) (qcZ kf lf rt na (QA q) (QL q)) (((qcZ kf lf rt na (QA q) (QL q)).1.length : Int))) kd' an' ai' ar' fi' se' n' hl' oc' qc' qlg' kn' f1' f2' cd') : wpQR_X40_forms MC MS post kd an ai ar mX40_kinds mX40_lefts mX40_rights mX40_axioms mX40_draft mX40_questions mX40_questionCount mX41_first mX41_second mX41_names mX41_from mX41_to mX41_n mX41_codes mX41_least mX41_hasLeast mX41_others mX41_otherCount mX41_named mX62_answers mX62_names mX62_from mX62_to mX62_n mX62_forms mX62_count mX62_large mX62_known mX85_first mX85_second mX85_codes x q  := by
  obtain ⟨A, G, nq, nF, FF, qa, ql, qS, qk, sq, sf, ow, e0, H, K, hQ, hX⟩ := Rm
  subst e0
  unfold wpQR_X40_forms
  refine ⟨MC, MS, ⟨by omega, by omega⟩, CQR_ready H K bC bS (fun no _ => ?_) (fun hq hl kd' an' ai' ar' fi' se' n' hl' oc' qc' qlg' kn' f1' f2' cd' A' G' nF' FF' M R' K' _ => ?_)⟩
  · have no' : ¬ ((0 ≤ q ∧ q < nQ) ∧ ¬ QL q = []) := fun w => no ⟨w.1, by rw [(hQ q w.1.1 w.1.2).2]; exact w.2⟩
    have P := hp kd an ai ar mX41_first mX41_second mX41_n mX41_hasLeast mX41_otherCount mX62_count mX62_large mX62_known mX85_first mX85_second mX85_codes ⟨A, G, nq, nF, FF, qa, ql, qS, qk, sq, sf, ow, rfl, H, K, hQ, hX⟩
    unfold qTl at P
    rw [pif_f no'] at P
    exact ⟨fun w => absurd w (by decide), fun _ => ⟨by omega, by omega, P⟩⟩
  · obtain ⟨ea, el⟩ := hQ q hq.1 hq.2
    rw [ea, el] at R' K' ⊢
    have rd : ((0 ≤ q ∧ q < nQ) ∧ ¬ QL q = []) := ⟨hq, by rw [← el]; exact hl⟩
    have e00 : A' 0 0 = A 0 0 := M.2.1 0 0 (by decide) (show (0 : Int) < 1 by decide)
    have sj : 0 ≤ sq q ∧ sq q < nq := (H.qst hq).2.2.2.2.2
    obtain ⟨g1, g2, g3, g4, g5, _⟩ := R'.qst hq
    rw [e00] at g1
    have R1 := R'
    obtain ⟨⟨HL, q0, f0⟩, Fl, D, HF, HQ, HX, HC, HS⟩ := R'
    obtain ⟨s1, s2, s3, s4, s5⟩ := (HQ (sq q) sj.1 sj.2).2.1
    rw [updI_s] at s1 s2 s3 s4 s5
    have fin : ∀ ai2 v, qcO A' ai' ai2 → ((qcZ kf lf rt na (QA q) (QL q)).2 = 0 → v = ((qcZ kf lf rt na (QA q) (QL q)).1.length : Int)) → (¬ (qcZ kf lf rt na (QA q) (QL q)).2 = 0 → v = -3) → post v kd' an' ai2 ar' fi' se' n' hl' oc' qc' qlg' kn' f1' f2' cd' := fun ai2 v O2 v0 v1 => by
      have P := hp kd' an' ai2 ar' fi' se' n' hl' oc' qc' qlg' kn' f1' f2' cd' ⟨A', G', nq, nF', FF', qa, ql, _, _, sq, sf, ow, e00, by rw [O2.up]; exact R1.gw, K', hQ, hX⟩
      unfold qTl at P
      rw [pif_t rd] at P
      by_cases w : (qcZ kf lf rt na (QA q) (QL q)).2 = 0
      · rw [if_pos w] at P
        rw [v0 w]; exact P
      · rw [if_neg w] at P
        rw [v1 w]; exact P
    have same : qcO A' ai' ai' := fun _ _ => rfl
    by_cases w : (qcZ kf lf rt na (QA q) (QL q)).2 = 0
    · rw [if_pos w]
      refine ⟨fun _ => kOn_of g1 ⟨g2, by rw [g3]; have := HS.1.2; omega, fun r1 e1 => ?_⟩, fun z => absurd (by decide) z⟩
      rw [g4] at e1
      rw [e1]
      exact kOn_some ⟨g5, by omega, by omega, fin ai' _ same (fun _ => s1) (fun z => absurd w z)⟩
    · rw [if_neg w]
      exact ⟨fun z => absurd z (by decide), fun _ => ⟨by omega, by omega, fin ai' _ same (fun z => absurd z w) (fun _ => rfl)⟩⟩
theorem CQR_form {post : Int → (Nat → Nat) → (Nat → Nat) → (Nat → Int → Int) → (Nat → Int → Option Nat) → (Nat → Int) → (Nat → Int) → (Nat → Int) → (Nat → Int) → (Nat → Int) → (Nat → Int) → (Nat → Int) → (Nat → Int) → (Nat → Int) → (Nat → Int) → (Nat → Option Nat) → Prop} (Rm : qcRm kd an ai al ar mX40_kinds mX40_lefts mX40_rights mX40_axioms mX40_classFacts mX40_roleFacts mX40_facts mX40_draft mX40_questions mX40_questionCount mX40_forbidden mX40_given mX41_first mX41_second mX41_names mX41_from mX41_to mX41_n mX41_codes mX41_least mX41_hasLeast mX41_others mX41_otherCount mX41_named mX62_answers mX62_names mX62_from mX62_to mX62_n mX62_forms mX62_count mX62_large mX62_known mX85_first mX85_second mX85_codes x kf lf rt na cf rf nf nQ QA QL) (bC : 180 ≤ MC) (bS : 630 ≤ MS) (hp : ∀ kd' an' ai' ar' fi' se' n' hl' oc' qc' qlg' kn' f1' f2' cd', qcRm (kd') (an') (ai') al (ar') mX40_kinds mX40_lefts mX40_rights mX40_axioms mX40_classFacts mX40_roleFacts mX40_facts mX40_draft mX40_questions mX40_questionCount mX40_forbidden mX40_given (fi') (se') mX41_names mX41_from mX41_to (n') mX41_codes mX41_least (hl') mX41_others (oc') mX41_named mX62_answers mX62_names mX62_from mX62_to mX62_n mX62_forms (qc') (qlg') (kn') (f1') (f2') (cd') x kf lf rt na cf rf nf nQ QA QL → post (qTl ((0 ≤ q ∧ q < nQ) ∧ ¬ QL q = []) (qcZ kf lf rt na (QA q) (QL q)) (qFmA (qcZ kf lf rt na (QA q) (QL q)) i w)) kd' an' ai' ar' fi' se' n' hl' oc' qc' qlg' kn' f1' f2' cd') : wpQR_X40_form MC MS post kd an ai ar mX40_kinds mX40_lefts mX40_rights mX40_axioms mX40_draft mX40_questions mX40_questionCount mX41_first mX41_second mX41_names mX41_from mX41_to mX41_n mX41_codes mX41_least mX41_hasLeast mX41_others mX41_otherCount mX41_named mX62_answers mX62_names mX62_from mX62_to mX62_n mX62_forms mX62_count mX62_large mX62_known mX85_first mX85_second mX85_codes x q i w := by
  obtain ⟨A, G, nq, nF, FF, qa, ql, qS, qk, sq, sf, ow, e0, H, K, hQ, hX⟩ := Rm
  subst e0
  unfold wpQR_X40_form
  refine ⟨MC, MS, ⟨by omega, by omega⟩, CQR_ready H K bC bS (fun no _ => ?_) (fun hq hl kd' an' ai' ar' fi' se' n' hl' oc' qc' qlg' kn' f1' f2' cd' A' G' nF' FF' M R' K' _ => ?_)⟩
  · have no' : ¬ ((0 ≤ q ∧ q < nQ) ∧ ¬ QL q = []) := fun w => no ⟨w.1, by rw [(hQ q w.1.1 w.1.2).2]; exact w.2⟩
    have P := hp kd an ai ar mX41_first mX41_second mX41_n mX41_hasLeast mX41_otherCount mX62_count mX62_large mX62_known mX85_first mX85_second mX85_codes ⟨A, G, nq, nF, FF, qa, ql, qS, qk, sq, sf, ow, rfl, H, K, hQ, hX⟩
    unfold qTl at P
    rw [pif_f no'] at P
    exact ⟨fun w => absurd w (by decide), fun _ => ⟨by omega, by omega, P⟩⟩
  · obtain ⟨ea, el⟩ := hQ q hq.1 hq.2
    rw [ea, el] at R' K' ⊢
    have rd : ((0 ≤ q ∧ q < nQ) ∧ ¬ QL q = []) := ⟨hq, by rw [← el]; exact hl⟩
    have e00 : A' 0 0 = A 0 0 := M.2.1 0 0 (by decide) (show (0 : Int) < 1 by decide)
    have sj : 0 ≤ sq q ∧ sq q < nq := (H.qst hq).2.2.2.2.2
    obtain ⟨g1, g2, g3, g4, g5, _⟩ := R'.qst hq
    rw [e00] at g1
    have R1 := R'
    obtain ⟨⟨HL, q0, f0⟩, Fl, D, HF, HQ, HX, HC, HS⟩ := R'
    obtain ⟨s1, s2, s3, s4, s5⟩ := (HQ (sq q) sj.1 sj.2).2.1
    rw [updI_s] at s1 s2 s3 s4 s5
    have fin : ∀ ai2 v, qcO A' ai' ai2 → ((qcZ kf lf rt na (QA q) (QL q)).2 = 0 → v = qFmA (qcZ kf lf rt na (QA q) (QL q)) i w) → (¬ (qcZ kf lf rt na (QA q) (QL q)).2 = 0 → v = -3) → post v kd' an' ai2 ar' fi' se' n' hl' oc' qc' qlg' kn' f1' f2' cd' := fun ai2 v O2 v0 v1 => by
      have P := hp kd' an' ai2 ar' fi' se' n' hl' oc' qc' qlg' kn' f1' f2' cd' ⟨A', G', nq, nF', FF', qa, ql, _, _, sq, sf, ow, e00, by rw [O2.up]; exact R1.gw, K', hQ, hX⟩
      unfold qTl at P
      rw [pif_t rd] at P
      by_cases w : (qcZ kf lf rt na (QA q) (QL q)).2 = 0
      · rw [if_pos w] at P
        rw [v0 w]; exact P
      · rw [if_neg w] at P
        rw [v1 w]; exact P
    have same : qcO A' ai' ai' := fun _ _ => rfl
    by_cases z0 : (qcZ kf lf rt na (QA q) (QL q)).2 = 0
    · rw [if_pos z0]
      refine ⟨fun _ => kOn_of g1 ⟨g2, by rw [g3]; have := HS.1.2; omega, fun r1 e1 => ?_⟩, fun z => absurd (by decide) z⟩
      rw [g4] at e1
      rw [e1]
      have bad : ¬ ((0 ≤ i ∧ i < ((qcZ kf lf rt na (QA q) (QL q)).1.length : Int)) ∧ 0 ≤ w ∧ w < 7) → post (-1) kd' an' ai' ar' fi' se' n' hl' oc' qc' qlg' kn' f1' f2' cd' := fun h => fin ai' _ same (fun _ => by unfold qFmA; rw [if_neg h]) (fun z => absurd z0 z)
      refine kOn_some ⟨g5, ⟨by omega, by omega⟩, ?_⟩
      rw [s1]
      unfold wpQR_X40_isIn
      refine ⟨fun y => ⟨fun _ => ⟨by omega, by omega, bad (by omega)⟩, fun y2 => absurd rfl y2⟩, fun y => ⟨fun y1 => ⟨fun _ => ⟨by omega, by omega, bad (by omega)⟩, fun y2 => absurd rfl y2⟩, fun y1 => ⟨fun y2 => absurd y2 (by decide), fun _ => ⟨⟨by omega, by omega⟩, fun v => ⟨fun _ => ⟨by omega, by omega, bad (by omega)⟩, fun y2 => absurd rfl y2⟩, fun v => ⟨fun v1 => ⟨fun _ => ⟨by omega, by omega, bad (by omega)⟩, fun y2 => absurd rfl y2⟩, fun v1 => ⟨fun y2 => absurd y2 (by decide), fun _ => ?_⟩⟩⟩⟩⟩⟩
      obtain ⟨r, hr, et, ft⟩ := s5 i (by omega) (by omega)
      have k11 : kd' (A' 11 (sq q)) = 8 := (HL 11 (sq q) sj.1 (show sq q < nq from sj.2)).2.1.1
      have a11 : an' (A' 11 (sq q)) = 90 := (HL 11 (sq q) sj.1 (show sq q < nq from sj.2)).2.2 (by decide)
      have k12 : kd' (A' 12 r) = 4 := (HL 12 r hr.1 (show r < nF' from hr.2)).2.1.1
      have k13 : kd' (A' 13 r) = 5 := (HL 13 r hr.1 (show r < nF' from hr.2)).2.1.1
      obtain ⟨⟨p1, p2, p3⟩, p4, p5, p6, _⟩ := HF r hr.1 hr.2
      have len := (HF r hr.1 hr.2).at.1
      have eFm : mX62_forms (A' 9 (sq q)) = some (A' 11 (sq q)) := (HQ (sq q) sj.1 sj.2).1.2.1.2.2.2
      have good : ∀ v, v = (if w = 0 then ((((qcZ kf lf rt na (QA q) (QL q)).1.getD i.toNat (0, 0, [])).2.2.length : Nat) : Int) else if w = 1 then ((qcZ kf lf rt na (QA q) (QL q)).1.getD i.toNat (0, 0, [])).1 else if w = 2 then ((qcZ kf lf rt na (QA q) (QL q)).1.getD i.toNat (0, 0, [])).2.1 else if w - 3 < ((((qcZ kf lf rt na (QA q) (QL q)).1.getD i.toNat (0, 0, [])).2.2.length : Nat) : Int) then ((qcZ kf lf rt na (QA q) (QL q)).1.getD i.toNat (0, 0, [])).2.2.getD (w - 3).toNat 0 else -1) → post v kd' an' ai' ar' fi' se' n' hl' oc' qc' qlg' kn' f1' f2' cd' := fun v ev => fin ai' v same (fun _ => by unfold qFmA; rw [if_pos (by omega)]; exact ev) (fun z => absurd z0 z)
      rw [← ft] at good
      refine kOn_of eFm ⟨k11, by rw [a11]; omega, fun r2 e2 => ?_⟩
      rw [et] at e2
      rw [e2]
      refine ⟨fun t3 => kOn_some ⟨k12, kOn_of p3 ⟨k13, by omega, by omega, fun t4 => ⟨by omega, by omega, good _ ?_⟩, fun t4 => ⟨by omega, by omega, by omega, good _ ?_⟩⟩⟩, fun t3 => ⟨fun t0 => kOn_some ⟨k12, kOn_of p3 ⟨k13, by omega, by omega, by omega, good _ ?_⟩⟩, fun t0 => ⟨fun t1 => kOn_some ⟨k12, by omega, by omega, good _ ?_⟩, fun t1 => kOn_some ⟨k12, by omega, by omega, good _ ?_⟩⟩⟩⟩
      · rw [if_neg (by omega), if_neg (by omega), if_neg (by omega), if_neg (by omega)]
      · rw [if_neg (by omega), if_neg (by omega), if_neg (by omega), if_pos (by omega), ← p5, aF_get _ _ _ (by omega), show (0 : Int) + ((w - 3).toNat : Int) = w - 3 by omega]
      · rw [if_pos t0]; exact len.symm
      · rw [if_neg t0, if_pos t1]; exact p1
      · rw [if_neg t0, if_neg t1, if_pos (by omega)]; exact p2
    · rw [if_neg z0]
      exact ⟨fun z => absurd z (by decide), fun _ => ⟨by omega, by omega, fin ai' _ same (fun z => absurd z z0) (fun _ => rfl)⟩⟩
end
