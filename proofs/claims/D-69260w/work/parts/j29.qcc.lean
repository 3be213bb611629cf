/-! QlRewrite (room QR): what forms find -/
theorem qcUg_r {g : Int → Int} {v t : Int} : (v < 6 → updI (qcUg g v t) v (g v) = g) ∧ (6 ≤ v → v < 8 → qcUg g v t = g) := by
  refine ⟨fun h => ?_, fun h h8 => ?_⟩
  · unfold qcUg
    rw [if_neg (by omega), updI_2a, updI_ia]
  · unfold qcUg
    rw [if_pos (by omega)]
section
variable {kd : Nat → Nat} {an : Nat → Nat} {ai : Nat → Int → Int} {al : Nat → Int → Int} {ar : Nat → Int → Option Nat} {mX40_kinds : Nat → Option Nat} {mX40_lefts : Nat → Option Nat} {mX40_rights : Nat → Option Nat} {mX40_axioms : Nat → Int} {mX40_classFacts : Nat → Option Nat} {mX40_roleFacts : Nat → Option Nat} {mX40_facts : Nat → Int} {mX40_draft : Nat → Option Nat} {mX40_questions : Nat → Option Nat} {mX40_questionCount : Nat → Int} {mX40_forbidden : Nat → Option Nat} {mX40_given : Nat → Option Nat} {mX41_first : Nat → Int} {mX41_second : Nat → Int} {mX41_names : Nat → Option Nat} {mX41_from : Nat → Option Nat} {mX41_to : Nat → Option Nat} {mX41_n : Nat → Int} {mX41_codes : Nat → Option Nat} {mX41_least : Nat → Option Nat} {mX41_hasLeast : Nat → Int} {mX41_others : Nat → Option Nat} {mX41_otherCount : Nat → Int} {mX41_named : Nat → Option Nat} {mX62_answers : Nat → Int} {mX62_names : Nat → Option Nat} {mX62_from : Nat → Option Nat} {mX62_to : Nat → Option Nat} {mX62_n : Nat → Int} {mX62_forms : Nat → Option Nat} {mX62_count : Nat → Int} {mX62_large : Nat → Int} {mX62_known : Nat → Int} {mX85_first : Nat → Int} {mX85_second : Nat → Int} {mX85_codes : Nat → Option Nat} {A : Nat → Int → Nat} {G : Nat → Nat × Int} {nq nF na nf nQ : Int} {FF : Int → qFo} {qa qk kf lf rt cf rf sq sf ow : Int → Int} {ql : Int → List qA} {qS : Int → qSS} {j n k v t oc i a b o f y r c : Int} {l : List qA} {S : qSS} {MC MS : Nat} {F : qFo} {ai1 : Nat → Int → Int}
/-- contents but for what is given -/
def qcO (A : Nat → Int → Nat) (ai ai1 : Nat → Int → Int) : Prop := ∀ b, b ≠ A 8 0 → ai1 b = ai b
theorem qcR.gv (H : qcR kd an ai al ar mX40_kinds mX40_lefts mX40_rights mX40_axioms mX40_classFacts mX40_roleFacts mX40_facts mX40_draft mX40_questions mX40_questionCount mX40_forbidden mX40_given mX41_first mX41_second mX41_names mX41_from mX41_to mX41_n mX41_codes mX41_least mX41_hasLeast mX41_others mX41_otherCount mX41_named mX62_answers mX62_names mX62_from mX62_to mX62_n mX62_forms mX62_count mX62_large mX62_known mX85_first mX85_second mX85_codes A G nq nF FF qa ql qS qk kf lf rt na cf rf nf nQ sq sf ow) : mX40_given (A 0 0) = some (A 8 0) ∧ kd (A 8 0) = 5 ∧ an (A 8 0) = 6 ∧ kd (A 0 0) = 1 := by
  obtain ⟨⟨HL, q0, f0_⟩, Fl, D, HF, HQ, HX, HC, HS⟩ := H
  have h := HL 8 0 (by decide) (show (0 : Int) < 1 by decide)
  exact ⟨Fl.2.2.2.2.2, h.2.1.1, h.2.2 (by decide), (HL 0 0 (by decide) (show (0 : Int) < 1 by decide)).2.1.1⟩
theorem qcR.gw {g : Int → Int} (H : qcR kd an ai al ar mX40_kinds mX40_lefts mX40_rights mX40_axioms mX40_classFacts mX40_roleFacts mX40_facts mX40_draft mX40_questions mX40_questionCount mX40_forbidden mX40_given mX41_first mX41_second mX41_names mX41_from mX41_to mX41_n mX41_codes mX41_least mX41_hasLeast mX41_others mX41_otherCount mX41_named mX62_answers mX62_names mX62_from mX62_to mX62_n mX62_forms mX62_count mX62_large mX62_known mX85_first mX85_second mX85_codes A G nq nF FF qa ql qS qk kf lf rt na cf rf nf nQ sq sf ow) : qcR kd an (va_up ai (A 8 0) g) al ar mX40_kinds mX40_lefts mX40_rights mX40_axioms mX40_classFacts mX40_roleFacts mX40_facts mX40_draft mX40_questions mX40_questionCount mX40_forbidden mX40_given mX41_first mX41_second mX41_names mX41_from mX41_to mX41_n mX41_codes mX41_least mX41_hasLeast mX41_others mX41_otherCount mX41_named mX62_answers mX62_names mX62_from mX62_to mX62_n mX62_forms mX62_count mX62_large mX62_known mX85_first mX85_second mX85_codes A G nq nF FF qa ql qS qk kf lf rt na cf rf nf nQ sq sf ow := by
  obtain ⟨⟨HL, q0, f0⟩, Fl, D, HF, HQ, HX, HC, HS⟩ := H
  have o : ∀ i j, i ≠ 8 → 0 ≤ j → j < qcLN nq nF i → (va_up ai (A 8 0) g) (A i j) = ai (A i j) := fun i j h5 j0 j1 => va_up_ne _ _ (HL.ne ⟨j0, j1⟩ ⟨by decide, show (0 : Int) < 1 by decide⟩ (Or.inl h5))
  refine ⟨⟨HL, q0, f0⟩, Fl, D, fun r r0 r1 => (HF r r0 r1).tr rfl rfl rfl rfl rfl rfl (o 13 r (by decide) r0 r1), fun j j0 j1 => ⟨(HQ j j0 j1).1.tr rfl rfl rfl rfl rfl (o 10 _ (by decide) (by omega) (show _ < 3 * nq by omega)) (o 10 _ (by decide) (by omega) (show _ < 3 * nq by omega)) (o 10 _ (by decide) (by omega) (show _ < 3 * nq by omega)), (HQ j j0 j1).2⟩, HX.tr rfl rfl rfl rfl (o 2 0 (by decide) (by decide) (show (0 : Int) < 3 by decide)) (o 2 1 (by decide) (by decide) (show (1 : Int) < 3 by decide)) (o 2 2 (by decide) (by decide) (show (2 : Int) < 3 by decide)), HC.tr rfl rfl rfl (o 3 0 (by decide) (by decide) (show (0 : Int) < 1 by decide)) (o 4 0 (by decide) (by decide) (show (0 : Int) < 1 by decide)), HS⟩
theorem CQR_fitsAtB {P0 P1 : Prop} (H : qcR kd an ai al ar mX40_kinds mX40_lefts mX40_rights mX40_axioms mX40_classFacts mX40_roleFacts mX40_facts mX40_draft mX40_questions mX40_questionCount mX40_forbidden mX40_given mX41_first mX41_second mX41_names mX41_from mX41_to mX41_n mX41_codes mX41_least mX41_hasLeast mX41_others mX41_otherCount mX41_named mX62_answers mX62_names mX62_from mX62_to mX62_n mX62_forms mX62_count mX62_large mX62_known mX85_first mX85_second mX85_codes A G nq nF FF qa ql qS qk kf lf rt na cf rf nf nQ sq sf ow) (hv : 0 ≤ v ∧ v < 8) (h1 : qcFt (ai1 (A 8 0)) v t → P1) (h0 : ¬ qcFt (ai1 (A 8 0)) v t → P0) : wpQR_X40_fitsAt (fun q => (q = 0 → P0) ∧ (¬ q = 0 → P1)) kd an ai1 mX40_given (A 0 0) v t := by
  obtain ⟨eG, kG, aG, _⟩ := H.gv
  have yes : qcFt (ai1 (A 8 0)) v t → ((1 : Int) = 0 → P0) ∧ (¬ (1 : Int) = 0 → P1) := fun h => ⟨fun w => absurd w (by decide), fun _ => h1 h⟩
  unfold wpQR_X40_fitsAt
  exact ⟨fun z => yes (Or.inl z), fun z6 => ⟨fun z => yes (Or.inr (Or.inl z)), fun z7 => kOn_of eG ⟨kG, by rw [aG]; omega, fun z => yes (Or.inr (Or.inr (Or.inl z))), fun zn => ⟨fun z => yes (Or.inr (Or.inr (Or.inr z))), fun ze => ⟨fun _ => h0 (fun q => q.elim z6 (fun q => q.elim z7 (fun q => q.elim zn ze))), fun w => absurd rfl w⟩⟩⟩⟩⟩
theorem CQR_given {post : Int → (Nat → Int → Int) → Prop} (H : qcR kd an ai al ar mX40_kinds mX40_lefts mX40_rights mX40_axioms mX40_classFacts mX40_roleFacts mX40_facts mX40_draft mX40_questions mX40_questionCount mX40_forbidden mX40_given mX41_first mX41_second mX41_names mX41_from mX41_to mX41_n mX41_codes mX41_least mX41_hasLeast mX41_others mX41_otherCount mX41_named mX62_answers mX62_names mX62_from mX62_to mX62_n mX62_forms mX62_count mX62_large mX62_known mX85_first mX85_second mX85_codes A G nq nF FF qa ql qS qk kf lf rt na cf rf nf nQ sq sf ow) (hv : 0 ≤ v ∧ v < 8) (hp : ∀ q ai2, (v < 6 → q = ai1 (A 8 0) v) → ai2 = va_up ai1 (A 8 0) (qcUg (ai1 (A 8 0)) v t) → post q ai2) : wpQR_X40_given post kd an ai1 mX40_given (A 0 0) v t := by
  obtain ⟨eG, kG, aG, _⟩ := H.gv
  have same : 6 ≤ v → va_up ai1 (A 8 0) (qcUg (ai1 (A 8 0)) v t) = ai1 := fun h => by
    rw [qcUg_r.2 h hv.2]; exact va_up_id rfl
  unfold wpQR_X40_given
  refine ⟨fun z => hp _ _ (fun w => by omega) (same (by omega)).symm, fun z6 => ⟨fun z => hp _ _ (fun w => by omega) (same (by omega)).symm, fun z7 => kOn_of eG ⟨kG, by rw [aG]; omega, fun q eq ai2 e2 => hp _ _ (fun _ => eq) ?_⟩⟩⟩
  rw [e2]
  unfold qcUg
  rw [if_neg (by omega)]
theorem CQR_hasC {P0 P1 : Prop} (H : qcR kd an ai al ar mX40_kinds mX40_lefts mX40_rights mX40_axioms mX40_classFacts mX40_roleFacts mX40_facts mX40_draft mX40_questions mX40_questionCount mX40_forbidden mX40_given mX41_first mX41_second mX41_names mX41_from mX41_to mX41_n mX41_codes mX41_least mX41_hasLeast mX41_others mX41_otherCount mX41_named mX62_answers mX62_names mX62_from mX62_to mX62_n mX62_forms mX62_count mX62_large mX62_known mX85_first mX85_second mX85_codes A G nq nF FF qa ql qS qk kf lf rt na cf rf nf nQ sq sf ow) (hO : qcO A ai ai1) (hn : 0 ≤ n ∧ n < 10) (ha : 0 ≤ a ∧ a < 12) (hb : b = 0) (h1 : qcFa cf rf n a b → P1) (h0 : ¬ qcFa cf rf n a b → P0) : wpQR_X40_has (fun q => (q = 0 → P0) ∧ (¬ q = 0 → P1)) kd an ai1 mX40_classFacts mX40_roleFacts (A 0 0) 0 n a b := by
  obtain ⟨⟨HL, q0, f0⟩, Fl, D, HF, HQ, HX, HC, HS⟩ := H
  have h3 := HL 3 0 (by decide) (show (0 : Int) < 1 by decide)
  have a3 : an (A 3 0) = 120 := h3.2.2 (by decide)
  have e3 : ai1 (A 3 0) = cf := (hO _ (HL.ne ⟨by decide, show (0 : Int) < 1 by decide⟩ ⟨by decide, show (0 : Int) < 1 by decide⟩ (Or.inl (by decide)))).trans HC.1.1
  have bt := (HC.2.1 (12 * n + a)).1
  unfold wpQR_X40_has
  refine ⟨fun _ => kOn_of Fl.2.1.1 ⟨h3.2.1.1, by rw [a3]; omega, by omega, by rw [e3]; exact bt, fun z => h0 (fun f => ?_), fun z => h1 ?_⟩, fun w => absurd rfl w⟩
  · rw [e3] at z
    unfold qcFa at f
    rcases f.2 with g | g
    · omega
    · omega
  · rw [e3] at z
    exact ⟨ha, Or.inl ⟨hn, hb, by omega⟩⟩
theorem CQR_hasR {P0 P1 : Prop} {o : Int} (H : qcR kd an ai al ar mX40_kinds mX40_lefts mX40_rights mX40_axioms mX40_classFacts mX40_roleFacts mX40_facts mX40_draft mX40_questions mX40_questionCount mX40_forbidden mX40_given mX41_first mX41_second mX41_names mX41_from mX41_to mX41_n mX41_codes mX41_least mX41_hasLeast mX41_others mX41_otherCount mX41_named mX62_answers mX62_names mX62_from mX62_to mX62_n mX62_forms mX62_count mX62_large mX62_known mX85_first mX85_second mX85_codes A G nq nF FF qa ql qS qk kf lf rt na cf rf nf nQ sq sf ow) (hO : qcO A ai ai1) (ho : ¬ o = 0) (hn : 0 ≤ n ∧ n < 8) (ha : 0 ≤ a ∧ a < 12) (hb : 0 ≤ b ∧ b < 12) (h1 : qcFa cf rf (32 + n) a b → P1) (h0 : ¬ qcFa cf rf (32 + n) a b → P0) : wpQR_X40_has (fun q => (q = 0 → P0) ∧ (¬ q = 0 → P1)) kd an ai1 mX40_classFacts mX40_roleFacts (A 0 0) o n a b := by
  obtain ⟨⟨HL, q0, f0⟩, Fl, D, HF, HQ, HX, HC, HS⟩ := H
  have h4 := HL 4 0 (by decide) (show (0 : Int) < 1 by decide)
  have a4 : an (A 4 0) = 1152 := h4.2.2 (by decide)
  have e4 : ai1 (A 4 0) = rf := (hO _ (HL.ne ⟨by decide, show (0 : Int) < 1 by decide⟩ ⟨by decide, show (0 : Int) < 1 by decide⟩ (Or.inl (by decide)))).trans HC.1.2
  have bt := (HC.2.1 (12 * (12 * n + a) + b)).2
  unfold wpQR_X40_has
  refine ⟨fun w => absurd w ho, fun _ => kOn_of Fl.2.1.2 ⟨h4.2.1.1, by rw [a4]; omega, by omega, by rw [e4]; exact bt, fun z => h0 (fun f => ?_), fun z => h1 ?_⟩⟩
  · rw [e4] at z
    unfold qcFa at f
    rcases f.2 with g | g
    · omega
    · rw [show 32 + n - 32 = n by omega] at g; omega
  · rw [e4] at z
    refine ⟨ha, Or.inr ⟨by omega, hb, ?_⟩⟩
    rw [show 32 + n - 32 = n by omega]; omega
/-- has, for an atom's code -/
theorem qcGc_c (h : qGc c) : (c % 8 = 7 ∧ 0 ≤ c / 64 ∧ c / 64 < 10) ∨ (¬ c % 8 = 7 ∧ 32 ≤ c / 64 ∧ c / 64 < 40) := by
  unfold qGc qGa qDe at h
  dsimp only at h
  omega
theorem CQR_finds {e : Nat} (H : qcR kd an ai al ar mX40_kinds mX40_lefts mX40_rights mX40_axioms mX40_classFacts mX40_roleFacts mX40_facts mX40_draft mX40_questions mX40_questionCount mX40_forbidden mX40_given mX41_first mX41_second mX41_names mX41_from mX41_to mX41_n mX41_codes mX41_least mX41_hasLeast mX41_others mX41_otherCount mX41_named mX62_answers mX62_names mX62_from mX62_to mX62_n mX62_forms mX62_count mX62_large mX62_known mX85_first mX85_second mX85_codes A G nq nF FF qa ql qS qk kf lf rt na cf rf nf nQ sq sf ow) (hr : 0 ≤ r ∧ r < nF) : ∀ (p : Nat) (k : Int) (ai1 : Nat → Int → Int) (post : Int → (Nat → Int → Int) → Prop), k + p = ((FF r).2.2.length : Int) → 0 ≤ k → qcO A ai ai1 → (qcFn (qcFa cf rf) (ai (A 13 r)) p k (ai1 (A 8 0)) → post 1 ai1) → (¬ qcFn (qcFa cf rf) (ai (A 13 r)) p k (ai1 (A 8 0)) → post 0 ai1) → wpQR_X40_finds (p + e + 1) post kd an ai1 mX40_classFacts mX40_roleFacts mX40_given mX85_codes (some (A 0 0)) (some (A 12 r)) k := fun p => by
  have H0 := H
  obtain ⟨eG, kG, aG, k00⟩ := H.gv
  obtain ⟨⟨HL, q0, f0⟩, Fl, D, HF, HQ, HX, HC, HS⟩ := H
  have kf_ : kd (A 12 r) = 4 := (HL 12 r hr.1 (show r < nF from hr.2)).2.1.1
  have kc_ : kd (A 13 r) = 5 := (HL 13 r hr.1 (show r < nF from hr.2)).2.1.1
  have ne13 : A 13 r ≠ A 8 0 := HL.ne ⟨hr.1, show r < nF from hr.2⟩ ⟨by decide, show (0 : Int) < 1 by decide⟩ (Or.inl (by decide))
  obtain ⟨⟨_, _, p3⟩, p4, p5, p6, _⟩ := HF r hr.1 hr.2
  have len := (HF r hr.1 hr.2).at.1
  induction p with
  | zero =>
    intro k ai1 post hk h0 hO y1 y0
    rw [show 0 + e + 1 = e + 1 by omega, wpQR_X40_finds]
    exact kOn_some ⟨kf_, kOn_of p3 ⟨kc_, by omega, fun _ => y1 trivial, fun z => by omega⟩⟩
  | succ p IH =>
    intro k ai1 post hk h0 hO y1 y0
    have gc : qGc (ai (A 13 r) k) := p6 _ (by
      rw [← p5]; exact (aF_mem _ _).2 ⟨k, by omega, rfl⟩)
    have cs := qcGc_c gc
    rw [show p + 1 + e + 1 = (p + e + 1) + 1 by omega, wpQR_X40_finds]
    refine kOn_some ⟨kf_, kOn_of p3 ⟨kc_, by omega, fun z => by omega, fun _ => ⟨by omega, fun c ec x ex_ y ey => ?_⟩⟩⟩
    rw [hO _ ne13] at ec
    rw [ey, ex_, ec]
    have fin : ∀ (d : Nat) (a : Int), (∃ b, qcFa cf rf ((ai (A 13 r) k) / 64) a b ∧ qcFt (ai1 (A 8 0)) (ai (A 13 r) k / 8 % 8) a ∧ qcFt (qcUg (ai1 (A 8 0)) (ai (A 13 r) k / 8 % 8) a) (ai (A 13 r) k % 8) b ∧ qcFn (qcFa cf rf) (ai (A 13 r)) p (k + 1) (qcUg (qcUg (ai1 (A 8 0)) (ai (A 13 r) k / 8 % 8) a) (ai (A 13 r) k % 8) b)) → wQR_X40_finds_38 (wpQR_X40_finds (p + e + 1)) (fun (x6_90 : Int) (ai_91 : Nat → Int → Int) => (x6_90 = 0 ∨ x6_90 = 1) ∧ ((post x6_90 ai_91))) (some (A 0 0)) (some (A 12 r)) k (ai (A 13 r) k) (ai (A 13 r) k / 8 % 8) (ai (A 13 r) k % 8) kd an mX40_classFacts mX40_roleFacts mX40_given mX85_codes (d + 1) 1 a ai1 := fun d a ⟨b, h⟩ => by
      rw [wQR_X40_finds_38]
      have yes : ((1 : Int) = 0 ∨ (1 : Int) = 1) ∧ post 1 ai1 := ⟨Or.inr rfl, y1 ⟨a, b, h⟩⟩
      exact ⟨fun _ => yes, fun _ => ⟨fun w => absurd w (by decide), fun _ => yes⟩⟩
    have fin2 : ∀ (d : Nat) (a a2 : Int), (∃ b, qcFa cf rf ((ai (A 13 r) k) / 64) a2 b ∧ qcFt (ai1 (A 8 0)) (ai (A 13 r) k / 8 % 8) a2 ∧ qcFt (qcUg (ai1 (A 8 0)) (ai (A 13 r) k / 8 % 8) a2) (ai (A 13 r) k % 8) b ∧ qcFn (qcFa cf rf) (ai (A 13 r)) p (k + 1) (qcUg (qcUg (ai1 (A 8 0)) (ai (A 13 r) k / 8 % 8) a2) (ai (A 13 r) k % 8) b)) → wQR_X40_finds_38 (wpQR_X40_finds (p + e + 1)) (fun (x6_90 : Int) (ai_91 : Nat → Int → Int) => (x6_90 = 0 ∨ x6_90 = 1) ∧ ((post x6_90 ai_91))) (some (A 0 0)) (some (A 12 r)) k (ai (A 13 r) k) (ai (A 13 r) k / 8 % 8) (ai (A 13 r) k % 8) kd an mX40_classFacts mX40_roleFacts mX40_given mX85_codes (d + 1) 1 a ai1 := fun d a a2 ⟨b, h⟩ => by
      rw [wQR_X40_finds_38]
      have yes : ((1 : Int) = 0 ∨ (1 : Int) = 1) ∧ post 1 ai1 := ⟨Or.inr rfl, y1 ⟨a2, b, h⟩⟩
      exact ⟨fun _ => yes, fun _ => ⟨fun w => absurd w (by decide), fun _ => yes⟩⟩
    have loopA : ∀ (d : Nat) (a : Int), a + d = 12 → 0 ≤ a → (∀ a', 0 ≤ a' → a' < a → ¬ ∃ b, qcFa cf rf ((ai (A 13 r) k) / 64) a' b ∧ qcFt (ai1 (A 8 0)) (ai (A 13 r) k / 8 % 8) a' ∧ qcFt (qcUg (ai1 (A 8 0)) (ai (A 13 r) k / 8 % 8) a') (ai (A 13 r) k % 8) b ∧ qcFn (qcFa cf rf) (ai (A 13 r)) p (k + 1) (qcUg (qcUg (ai1 (A 8 0)) (ai (A 13 r) k / 8 % 8) a') (ai (A 13 r) k % 8) b)) → wQR_X40_finds_38 (wpQR_X40_finds (p + e + 1)) (fun (x6_90 : Int) (ai_91 : Nat → Int → Int) => (x6_90 = 0 ∨ x6_90 = 1) ∧ ((post x6_90 ai_91))) (some (A 0 0)) (some (A 12 r)) k (ai (A 13 r) k) (ai (A 13 r) k / 8 % 8) (ai (A 13 r) k % 8) kd an mX40_classFacts mX40_roleFacts mX40_given mX85_codes (d + 1) 0 a ai1 := by
      intro d
      induction d with
      | zero =>
        intro a ha a0 no
        rw [wQR_X40_finds_38]
        refine ⟨fun _ => ⟨Or.inl rfl, y0 (fun ⟨a', b, h⟩ => no a' h.1.1.1 (by have := h.1.1.2; omega) ⟨b, h⟩)⟩, fun z => by omega⟩
      | succ d ihA =>
        intro a ha a0 no
        have nxt : (¬ ∃ b, qcFa cf rf ((ai (A 13 r) k) / 64) a b ∧ qcFt (ai1 (A 8 0)) (ai (A 13 r) k / 8 % 8) a ∧ qcFt (qcUg (ai1 (A 8 0)) (ai (A 13 r) k / 8 % 8) a) (ai (A 13 r) k % 8) b ∧ qcFn (qcFa cf rf) (ai (A 13 r)) p (k + 1) (qcUg (qcUg (ai1 (A 8 0)) (ai (A 13 r) k / 8 % 8) a) (ai (A 13 r) k % 8) b)) → ∀ a2 : Int, a2 = a + 1 → wQR_X40_finds_38 (wpQR_X40_finds (p + e + 1)) (fun (x6_90 : Int) (ai_91 : Nat → Int → Int) => (x6_90 = 0 ∨ x6_90 = 1) ∧ ((post x6_90 ai_91))) (some (A 0 0)) (some (A 12 r)) k (ai (A 13 r) k) (ai (A 13 r) k / 8 % 8) (ai (A 13 r) k % 8) kd an mX40_classFacts mX40_roleFacts mX40_given mX85_codes (d + 1) 0 a2 ai1 := fun hn a2 ea => by
          rw [ea]
          refine ihA (a + 1) (by omega) (by omega) (fun a' b0 b1 => ?_)
          by_cases w : a' = a
          · rw [w]; exact hn
          · exact no a' b0 (by omega)
        rw [wQR_X40_finds_38]
        refine ⟨fun z => by omega, fun _ => ⟨fun _ => kOn_some ⟨k00, CQR_fitsAtB H0 (by omega) (fun fa => CQR_given H0 (by omega) (fun was ai2 ew e2 => ?_)) (fun nfa => ⟨by omega, nxt (fun ⟨b, h⟩ => nfa h.2.1)⟩)⟩, fun w => absurd rfl w⟩⟩
        have g2 : ai2 (A 8 0) = qcUg (ai1 (A 8 0)) (ai (A 13 r) k / 8 % 8) a := by rw [e2, va_up_self]
        have O2 : qcO A ai ai2 := fun b hb => by rw [e2, va_up_ne _ _ hb]; exact hO b hb
        -- after the loop over b
        have back : ∀ s : Int, (s = 0 → ¬ ∃ b, qcFa cf rf ((ai (A 13 r) k) / 64) a b ∧ qcFt (ai1 (A 8 0)) (ai (A 13 r) k / 8 % 8) a ∧ qcFt (qcUg (ai1 (A 8 0)) (ai (A 13 r) k / 8 % 8) a) (ai (A 13 r) k % 8) b ∧ qcFn (qcFa cf rf) (ai (A 13 r)) p (k + 1) (qcUg (qcUg (ai1 (A 8 0)) (ai (A 13 r) k / 8 % 8) a) (ai (A 13 r) k % 8) b)) → (¬ s = 0 → s = 1 ∧ ∃ b, qcFa cf rf ((ai (A 13 r) k) / 64) a b ∧ qcFt (ai1 (A 8 0)) (ai (A 13 r) k / 8 % 8) a ∧ qcFt (qcUg (ai1 (A 8 0)) (ai (A 13 r) k / 8 % 8) a) (ai (A 13 r) k % 8) b ∧ qcFn (qcFa cf rf) (ai (A 13 r)) p (k + 1) (qcUg (qcUg (ai1 (A 8 0)) (ai (A 13 r) k / 8 % 8) a) (ai (A 13 r) k % 8) b)) → (6 ≤ (ai (A 13 r) k / 8 % 8) → (zR (a + 1) ∧ ∀ a2 : Int, a2 = a + 1 → wQR_X40_finds_38 (wpQR_X40_finds (p + e + 1)) (fun (x6_90 : Int) (ai_91 : Nat → Int → Int) => (x6_90 = 0 ∨ x6_90 = 1) ∧ ((post x6_90 ai_91))) (some (A 0 0)) (some (A 12 r)) k (ai (A 13 r) k) (ai (A 13 r) k / 8 % 8) (ai (A 13 r) k % 8) kd an mX40_classFacts mX40_roleFacts mX40_given mX85_codes (d + 1) s a2 ai2)) ∧ (¬ 6 ≤ (ai (A 13 r) k / 8 % 8) → kOn (some (A 0 0)) (fun b_80 => kd b_80 = 1 ∧ (kOn (mX40_given b_80) (fun b_82 => kd b_82 = 5 ∧ ((0 ≤ (ai (A 13 r) k / 8 % 8) ∧ (ai (A 13 r) k / 8 % 8) < (an b_82 : Int)) ∧ (∀ ai_85 : Nat → Int → Int, ai_85 = va_up ai2 b_82 (updI (ai2 b_82) (ai (A 13 r) k / 8 % 8) was) → (zR (a + 1) ∧ (∀ a2 : Int, a2 = a + 1 → wQR_X40_finds_38 (wpQR_X40_finds (p + e + 1)) (fun (x6_90 : Int) (ai_91 : Nat → Int → Int) => (x6_90 = 0 ∨ x6_90 = 1) ∧ ((post x6_90 ai_91))) (some (A 0 0)) (some (A 12 r)) k (ai (A 13 r) k) (ai (A 13 r) k / 8 % 8) (ai (A 13 r) k % 8) kd an mX40_classFacts mX40_roleFacts mX40_given mX85_codes (d + 1) s a2 ai_85)))))))) := fun s s0 s1 => by
          have go : ∀ a2 : Int, a2 = a + 1 → wQR_X40_finds_38 (wpQR_X40_finds (p + e + 1)) (fun (x6_90 : Int) (ai_91 : Nat → Int → Int) => (x6_90 = 0 ∨ x6_90 = 1) ∧ ((post x6_90 ai_91))) (some (A 0 0)) (some (A 12 r)) k (ai (A 13 r) k) (ai (A 13 r) k / 8 % 8) (ai (A 13 r) k % 8) kd an mX40_classFacts mX40_roleFacts mX40_given mX85_codes (d + 1) s a2 ai1 := fun a2 ea => by
            by_cases w : s = 0
            · rw [w]; exact nxt (s0 w) a2 ea
            · rw [(s1 w).1]; exact fin2 d a2 a (s1 w).2
          refine ⟨fun h6 => ⟨by omega, fun a2 ea => ?_⟩, fun h6 => kOn_some ⟨k00, kOn_of eG ⟨kG, by rw [aG]; omega, fun ai3 e3 => ⟨by omega, fun a2 ea => ?_⟩⟩⟩⟩
          · have : ai2 = ai1 := by rw [e2, qcUg_r.2 h6 (by omega)]; exact va_up_id rfl
            rw [this]; exact go a2 ea
          · have : ai3 = ai1 := by
              rw [e3, g2, ew (by omega), qcUg_r.1 (by omega), e2, va_up_up]; exact va_up_id rfl
            rw [this]; exact go a2 ea
        have nb : ∃ m : Nat, ((ai (A 13 r) k % 8) = 7 → m = 1) ∧ (¬ (ai (A 13 r) k % 8) = 7 → m = 12) := by
          by_cases w : (ai (A 13 r) k % 8) = 7
          · exact ⟨1, fun _ => rfl, fun q => absurd w q⟩
          · exact ⟨12, fun q => absurd q w, fun _ => rfl⟩
        obtain ⟨m, m1, m12⟩ := nb
        have bm : ∀ b, qcFa cf rf ((ai (A 13 r) k) / 64) a b ∧ qcFt (ai1 (A 8 0)) (ai (A 13 r) k / 8 % 8) a ∧ qcFt (qcUg (ai1 (A 8 0)) (ai (A 13 r) k / 8 % 8) a) (ai (A 13 r) k % 8) b ∧ qcFn (qcFa cf rf) (ai (A 13 r)) p (k + 1) (qcUg (qcUg (ai1 (A 8 0)) (ai (A 13 r) k / 8 % 8) a) (ai (A 13 r) k % 8) b) → 0 ≤ b ∧ b < m := fun b h => by
          have f := h.1
          unfold qcFa at f
          rcases cs with w | w
          · have := m1 w.1; omega
          · have := m12 w.1; omega
        refine ⟨m + 1, ?_⟩
        have loopB : ∀ (K : Int → (Nat → Int → Int) → Prop), (∀ s : Int, (s = 0 → ¬ ∃ b, qcFa cf rf ((ai (A 13 r) k) / 64) a b ∧ qcFt (ai1 (A 8 0)) (ai (A 13 r) k / 8 % 8) a ∧ qcFt (qcUg (ai1 (A 8 0)) (ai (A 13 r) k / 8 % 8) a) (ai (A 13 r) k % 8) b ∧ qcFn (qcFa cf rf) (ai (A 13 r)) p (k + 1) (qcUg (qcUg (ai1 (A 8 0)) (ai (A 13 r) k / 8 % 8) a) (ai (A 13 r) k % 8) b)) → (¬ s = 0 → s = 1 ∧ ∃ b, qcFa cf rf ((ai (A 13 r) k) / 64) a b ∧ qcFt (ai1 (A 8 0)) (ai (A 13 r) k / 8 % 8) a ∧ qcFt (qcUg (ai1 (A 8 0)) (ai (A 13 r) k / 8 % 8) a) (ai (A 13 r) k % 8) b ∧ qcFn (qcFa cf rf) (ai (A 13 r)) p (k + 1) (qcUg (qcUg (ai1 (A 8 0)) (ai (A 13 r) k / 8 % 8) a) (ai (A 13 r) k % 8) b)) → K s ai2) → ∀ (d2 : Nat) (b : Int), b + d2 = m → 0 ≤ b → (∀ b', 0 ≤ b' → b' < b → ¬ (qcFa cf rf ((ai (A 13 r) k) / 64) a b' ∧ qcFt (ai1 (A 8 0)) (ai (A 13 r) k / 8 % 8) a ∧ qcFt (qcUg (ai1 (A 8 0)) (ai (A 13 r) k / 8 % 8) a) (ai (A 13 r) k % 8) b' ∧ qcFn (qcFa cf rf) (ai (A 13 r)) p (k + 1) (qcUg (qcUg (ai1 (A 8 0)) (ai (A 13 r) k / 8 % 8) a) (ai (A 13 r) k % 8) b'))) → wQR_X40_finds_77 (wpQR_X40_finds (p + e + 1)) K (some (A 0 0)) (some (A 12 r)) k (ai (A 13 r) k) (ai (A 13 r) k % 8) a kd an mX40_classFacts mX40_roleFacts mX40_given mX85_codes (d2 + 1) 0 b ai2 := by
          intro K hKs d2
          induction d2 with
          | zero =>
            intro b hb b0 no
            have out : K 0 ai2 := hKs 0 (fun _ ⟨b', h⟩ => no b' (bm b' h).1 (by have := (bm b' h).2; omega) h) (fun w => absurd rfl w)
            rw [wQR_X40_finds_77]
            unfold wQR_X40_finds_92
            exact ⟨fun w => ⟨fun _ => out, fun z => by have := m1 w; omega⟩, fun w => ⟨fun _ => out, fun z => by have := m12 w; omega⟩⟩
          | succ d2 ihB =>
            intro b hb b0 no
            have nxtB : ¬ (qcFa cf rf ((ai (A 13 r) k) / 64) a b ∧ qcFt (ai1 (A 8 0)) (ai (A 13 r) k / 8 % 8) a ∧ qcFt (qcUg (ai1 (A 8 0)) (ai (A 13 r) k / 8 % 8) a) (ai (A 13 r) k % 8) b ∧ qcFn (qcFa cf rf) (ai (A 13 r)) p (k + 1) (qcUg (qcUg (ai1 (A 8 0)) (ai (A 13 r) k / 8 % 8) a) (ai (A 13 r) k % 8) b)) → ∀ b2 : Int, b2 = b + 1 → wQR_X40_finds_77 (wpQR_X40_finds (p + e + 1)) K (some (A 0 0)) (some (A 12 r)) k (ai (A 13 r) k) (ai (A 13 r) k % 8) a kd an mX40_classFacts mX40_roleFacts mX40_given mX85_codes (d2 + 1) 0 b2 ai2 := fun hn b2 eb => by
              rw [eb]
              refine ihB (b + 1) (by omega) (by omega) (fun b' c0 c1 => ?_)
              by_cases w : b' = b
              · rw [w]; exact hn
              · exact no b' c0 (by omega)
            have finB : (qcFa cf rf ((ai (A 13 r) k) / 64) a b ∧ qcFt (ai1 (A 8 0)) (ai (A 13 r) k / 8 % 8) a ∧ qcFt (qcUg (ai1 (A 8 0)) (ai (A 13 r) k / 8 % 8) a) (ai (A 13 r) k % 8) b ∧ qcFn (qcFa cf rf) (ai (A 13 r)) p (k + 1) (qcUg (qcUg (ai1 (A 8 0)) (ai (A 13 r) k / 8 % 8) a) (ai (A 13 r) k % 8) b)) → ∀ b2 : Int, wQR_X40_finds_77 (wpQR_X40_finds (p + e + 1)) K (some (A 0 0)) (some (A 12 r)) k (ai (A 13 r) k) (ai (A 13 r) k % 8) a kd an mX40_classFacts mX40_roleFacts mX40_given mX85_codes (d2 + 1) 1 b2 ai2 := fun h b2 => by
              have out : K 1 ai2 := hKs 1 (fun w => absurd w (by decide)) (fun _ => ⟨rfl, b, h⟩)
              rw [wQR_X40_finds_77]
              unfold wQR_X40_finds_92
              exact ⟨fun _ => ⟨fun _ => out, fun _ => ⟨fun w => absurd w (by decide), fun _ => out⟩⟩, fun _ => ⟨fun _ => out, fun _ => ⟨fun w => absurd w (by decide), fun _ => out⟩⟩⟩
            -- a fact that fits: go on with the next atom
            have deep : qcFa cf rf ((ai (A 13 r) k) / 64) a b → qcFt (ai2 (A 8 0)) (ai (A 13 r) k % 8) b → kOn (some (A 0 0)) (fun b_44 => kd b_44 = 1 ∧ ((wpQR_X40_given (fun (r_46 : Int) (ai_47 : Nat → Int → Int) => (zR (k + 1) ∧ ((wpQR_X40_finds (p + e + 1) (fun (r_52 : Int) (ai_53 : Nat → Int → Int) => (((6 ≤ (ai (A 13 r) k % 8) → (zR (b + 1) ∧ (∀ x9_56 : Int, x9_56 = b + 1 → (wQR_X40_finds_77 (wpQR_X40_finds (p + e + 1)) K (some (A 0 0)) (some (A 12 r)) k (ai (A 13 r) k) (ai (A 13 r) k % 8) a kd an mX40_classFacts mX40_roleFacts mX40_given mX85_codes (d2 + 1) r_52 x9_56 ai_53)))) ∧ (¬ 6 ≤ (ai (A 13 r) k % 8) → (kOn (mX40_given b_44) (fun b_58 => kd b_58 = 5 ∧ ((0 ≤ (ai (A 13 r) k % 8) ∧ (ai (A 13 r) k % 8) < (an b_58 : Int)) ∧ (∀ ai_61 : Nat → Int → Int, ai_61 = va_up ai_53 b_58 (updI (ai_53 b_58) (ai (A 13 r) k % 8) r_46) → (zR (b + 1) ∧ (∀ x9_62 : Int, x9_62 = b + 1 → (wQR_X40_finds_77 (wpQR_X40_finds (p + e + 1)) K (some (A 0 0)) (some (A 12 r)) k (ai (A 13 r) k) (ai (A 13 r) k % 8) a kd an mX40_classFacts mX40_roleFacts mX40_given mX85_codes (d2 + 1) r_52 x9_62 ai_61))))))))))) kd an ai_47 mX40_classFacts mX40_roleFacts mX40_given mX85_codes (some (A 0 0)) (some (A 12 r)) (k + 1))))) kd an ai2 mX40_given b_44 (ai (A 13 r) k % 8) b))) := fun fa fb => by
              refine kOn_some ⟨k00, CQR_given H0 (by omega) (fun old ai3 eo e3 => ⟨by omega, ?_⟩)⟩
              have g3 : ai3 (A 8 0) = qcUg (qcUg (ai1 (A 8 0)) (ai (A 13 r) k / 8 % 8) a) (ai (A 13 r) k % 8) b := by rw [e3, va_up_self, g2]
              have O3 : qcO A ai ai3 := fun b hb => by rw [e3, va_up_ne _ _ hb]; exact O2 b hb
              rw [g2] at fb
              have res : ∀ s : Int, (∀ b2 : Int, b2 = b + 1 → wQR_X40_finds_77 (wpQR_X40_finds (p + e + 1)) K (some (A 0 0)) (some (A 12 r)) k (ai (A 13 r) k) (ai (A 13 r) k % 8) a kd an mX40_classFacts mX40_roleFacts mX40_given mX85_codes (d2 + 1) s b2 ai2) → ((6 ≤ (ai (A 13 r) k % 8) → (zR (b + 1) ∧ (∀ x9_56 : Int, x9_56 = b + 1 → (wQR_X40_finds_77 (wpQR_X40_finds (p + e + 1)) K (some (A 0 0)) (some (A 12 r)) k (ai (A 13 r) k) (ai (A 13 r) k % 8) a kd an mX40_classFacts mX40_roleFacts mX40_given mX85_codes (d2 + 1) s x9_56 ai3)))) ∧ (¬ 6 ≤ (ai (A 13 r) k % 8) → (kOn (mX40_given (A 0 0)) (fun b_58 => kd b_58 = 5 ∧ ((0 ≤ (ai (A 13 r) k % 8) ∧ (ai (A 13 r) k % 8) < (an b_58 : Int)) ∧ (∀ ai_61 : Nat → Int → Int, ai_61 = va_up ai3 b_58 (updI (ai3 b_58) (ai (A 13 r) k % 8) old) → (zR (b + 1) ∧ (∀ x9_62 : Int, x9_62 = b + 1 → (wQR_X40_finds_77 (wpQR_X40_finds (p + e + 1)) K (some (A 0 0)) (some (A 12 r)) k (ai (A 13 r) k) (ai (A 13 r) k % 8) a kd an mX40_classFacts mX40_roleFacts mX40_given mX85_codes (d2 + 1) s x9_62 ai_61))))))))) := fun s go => by
                refine ⟨fun h6 => ⟨by omega, fun b2 eb => ?_⟩, fun h6 => kOn_of eG ⟨kG, by rw [aG]; omega, fun ai4 e4 => ⟨by omega, fun b2 eb => ?_⟩⟩⟩
                · have : ai3 = ai2 := by rw [e3, qcUg_r.2 h6 (by omega)]; exact va_up_id rfl
                  rw [this]; exact go b2 eb
                · have : ai4 = ai2 := by
                    rw [e4, e3, va_up_self, eo (by omega), qcUg_r.1 (by omega), va_up_up]; exact va_up_id rfl
                  rw [this]; exact go b2 eb
              exact IH (k + 1) ai3 _ (by omega) (by omega) O3 (fun h => res 1 (fun b2 _ => finB ⟨fa, ‹qcFt (ai1 (A 8 0)) (ai (A 13 r) k / 8 % 8) a›, fb, by rw [← g3]; exact h⟩ b2)) (fun h => res 0 (nxtB (fun w => h (by rw [g3]; exact w.2.2.2))))
            have nofit : ¬ qcFt (ai2 (A 8 0)) (ai (A 13 r) k % 8) b → ¬ (qcFa cf rf ((ai (A 13 r) k) / 64) a b ∧ qcFt (ai1 (A 8 0)) (ai (A 13 r) k / 8 % 8) a ∧ qcFt (qcUg (ai1 (A 8 0)) (ai (A 13 r) k / 8 % 8) a) (ai (A 13 r) k % 8) b ∧ qcFn (qcFa cf rf) (ai (A 13 r)) p (k + 1) (qcUg (qcUg (ai1 (A 8 0)) (ai (A 13 r) k / 8 % 8) a) (ai (A 13 r) k % 8) b)) := fun h w => h (by rw [g2]; exact w.2.2.1)
            rw [wQR_X40_finds_77]
            unfold wQR_X40_finds_92 wQR_X40_finds_145
            rcases cs with w | w
            · have em := m1 w.1
              refine ⟨fun _ => ⟨fun z => by omega, fun _ => ⟨fun _ => kOn_some ⟨k00, CQR_fitsAtB H0 (by omega) (fun fb => ⟨fun _ => ⟨fun _ => kOn_some ⟨k00, CQR_hasC H0 O2 w.2 (by omega) (by omega) (fun fa => deep fa fb) (fun nfa => ⟨by omega, nxtB (fun h => nfa h.1)⟩)⟩, fun q => absurd w.1 q⟩, fun q => absurd w.1 q⟩) (fun nfb => ⟨by omega, nxtB (nofit nfb)⟩)⟩, fun q => absurd rfl q⟩⟩, fun q => absurd w.1 q⟩
            · have em := m12 w.1
              have e32 : 32 + ((ai (A 13 r) k) / 64 - 32) = (ai (A 13 r) k) / 64 := by omega
              refine ⟨fun q => absurd q w.1, fun _ => ⟨fun z => by omega, fun _ => ⟨fun _ => kOn_some ⟨k00, CQR_fitsAtB H0 (by omega) (fun fb => ⟨fun q => absurd q w.1, fun _ => ⟨fun q => absurd q w.1, fun _ => ⟨by omega, kOn_some ⟨k00, CQR_hasR H0 O2 (by decide) (by omega) (by omega) (by omega) (fun fa => ?_) (fun nfa => ?_)⟩⟩⟩⟩) (fun nfb => ⟨by omega, nxtB (nofit nfb)⟩)⟩, fun q => absurd rfl q⟩⟩⟩
              · rw [e32] at fa; exact deep fa fb
              · rw [e32] at nfa; exact ⟨by omega, nxtB (fun h => nfa h.1)⟩
        exact loopB _ (fun s s0 s1 => back s s0 s1) m 0 (by omega) (by omega) (fun b' b0 b1 => by omega)
    exact ⟨13, loopA 12 0 (by omega) (by omega) (fun a' b0 b1 => by omega)⟩
end
