/-! ProofChecker (room PC): row, premise, name, size, states, concludes -/
section
variable {kd : Nat → Nat} {an : Nat → Nat} {ai : Nat → Int → Int} {al : Nat → Int → Int} {ar : Nat → Int → Option Nat} {mX8_rules : Nat → Option Nat} {mX8_axioms : Nat → Option Nat} {mX8_axiomCount : Nat → Int} {mX8_givens : Nat → Option Nat} {mX8_givenCount : Nat → Int} {mX8_wanted : Nat → Option Nat} {mX8_rows : Nat → Option Nat} {mX8_rowCount : Nat → Int} {mX8_looked : Nat → Int} {mX8_from : Nat → Option Nat} {mX8_needed : Nat → Option Nat} {mX8_broken : Nat → Int} {mX8_places : Nat → Option Nat} {mX8_text : Nat → Option Nat} {mX8_size : Nat → Int} {mX9_kind : Nat → Int} {mX9_a : Nat → Int} {mX9_b : Nat → Int} {mX9_c : Nat → Int} {mX26_rule : Nat → Int} {mX26_instance : Nat → Int} {mX26_premises : Nat → Option Nat} {mX26_count : Nat → Int} {mX26_states : Nat → Option Nat} {mX26_right : Nat → Int} {mX26_size : Nat → Int} {mX10_takes : Nat → Int} {mX10_name : Nat → Option Nat} {mX12_any : Nat → Int} {mX14_kind : Nat → Int} {mX16_kind : Nat → Int} {mX18_first : Nat → Int} {mX19_either : Nat → Int} {A : Nat → Int → Nat} {gi : Nat → Nat × Int} {Ro : Int → Nat} {ax tr ru ins ct pr ru' ins' ct' pr' wa : Int → Int} {na nt n n' br : Int} {tx : List Int} {S S' : Int → Int → Int}
theorem pcOK.nrow {r i p cv : Int} {ai' : Nat → Int → Int} (O : pcOK kd an ai al ar mX8_rules mX8_axioms mX8_axiomCount mX8_givens mX8_givenCount mX8_wanted mX8_rows mX8_rowCount mX8_looked mX8_from mX8_needed mX8_broken mX8_places mX8_text mX8_size mX9_kind mX9_a mX9_b mX9_c mX26_rule mX26_instance mX26_premises mX26_count mX26_states mX26_right mX26_size mX10_takes mX10_name mX12_any mX14_kind mX16_kind mX18_first mX19_either A gi Ro ax na tr nt ru ins ct pr n br tx) (R : pcRok na nt n r i p) (h0 : p = 0 → pr' = pr ∧ ai' = ai ∧ cv = 0) (h1 : p ≠ 0 → pr' = updI pr (3 * (n + 1)) p ∧ ai' = va_up ai (A 10 (n + 1)) (updI (ai (A 10 (n + 1))) 0 p) ∧ cv = 1) : pcOK kd an (ai') al ar mX8_rules mX8_axioms mX8_axiomCount mX8_givens mX8_givenCount mX8_wanted mX8_rows (va_up mX8_rowCount (A 0 0) (n + 1)) mX8_looked mX8_from mX8_needed mX8_broken mX8_places mX8_text mX8_size mX9_kind mX9_a mX9_b mX9_c (va_up mX26_rule (A 9 (n + 1)) r) (va_up mX26_instance (A 9 (n + 1)) i) mX26_premises (va_up mX26_count (A 9 (n + 1)) cv) mX26_states mX26_right mX26_size mX10_takes mX10_name mX12_any mX14_kind mX16_kind mX18_first mX19_either A gi Ro ax na tr nt (updI ru (n + 1) r) (updI ins (n + 1) i) (updI ct (n + 1) cv) pr' (n + 1) br tx := by
  obtain ⟨⟨wa, H, da, dw, dl⟩, hI, hAT, hD, c1, c2, c3, c4⟩ := O
  obtain ⟨i1, i2, i3, i4⟩ := id hI
  obtain ⟨⟨q1, q2, q3⟩, q4⟩ := R
  have tb := pcT_b r
  have prs : ∀ q, 1 ≤ q → q ≤ n → ∀ i, 0 ≤ i → i < ct q → pr' (3 * q + i) = pr (3 * q + i) := fun q a b i' c d => by
    have := hI.prm q a b
    by_cases hp : p = 0
    · rw [(h0 hp).1]
    · rw [(h1 hp).1, updI_n (by omega)]
  have Er : pcEr ru ins ct pr (updI ru (n + 1) r) (updI ins (n + 1) i) (updI ct (n + 1) cv) pr' n := fun q a b => by
    refine ⟨?_, prs q a b⟩
    rw [updI_n (by omega), updI_n (by omega), updI_n (by omega)]
    exact ⟨rfl, rfl, rfl⟩
  have cvb : 0 ≤ cv ∧ cv ≤ pcT r ∧ (0 < cv → p ≠ 0 ∧ cv = 1) := by
    by_cases hp : p = 0
    · have := (h0 hp).2.2; omega
    · have := (h1 hp).2.2; omega
  have n15 : A 15 0 ≠ A 10 (n + 1) := H.ne (i := 15) (i' := 10) ⟨by decide, z01⟩ ⟨by omega, by show n + 1 < 301; omega⟩ (Or.inl (by decide))
  have c5 : ai' (A 15 0) = ai (A 15 0) := by
    by_cases hp : p = 0
    · rw [(h0 hp).2.1]
    · rw [(h1 hp).2.1, va_up_ne _ _ n15]
  refine ⟨⟨wa, H, da, dw, dl.c (fun q a b => ⟨pcS_c i4 ⟨fun _ _ _ _ _ _ => rfl, fun _ _ _ _ _ _ => rfl⟩ Er 300 a (by have := dl.1; omega) (by have := dl.1; omega), pcSz_c i4 Er 300 a (by have := dl.1; omega) (by have := dl.1; omega)⟩) (by have := dl.1; omega)⟩, ⟨by omega, i2, i3, fun q a b => ?_⟩, hAT, fun q a b => ?_, c1, c2, va_up_self _ _ _, c4.1, by rw [c5]; exact c4.2⟩
  · by_cases h : q = n + 1
    · subst h
      unfold pcRw
      rw [updI_s, updI_s, updI_s]
      refine ⟨q1, ⟨cvb.1, cvb.2.1⟩, fun j j0 j1 => ?_, q2.1, q2.2.1, q2.2.2⟩
      have hp := cvb.2.2 (by omega)
      have : j = 0 := by omega
      subst this
      rw [(h1 hp.1).1, Int.add_zero, updI_s]
      omega
    · exact pcRw_c (i4 q a (by omega)) Er a (by omega) (Int.le_refl _) (Int.le_refl _)
  · by_cases h : q = n + 1
    · subst h
      rw [updI_s, updI_s, updI_s, va_up_self, va_up_self, va_up_self]
      refine ⟨⟨rfl, rfl, rfl⟩, fun j j0 j1 => ?_⟩
      have hp := cvb.2.2 (by omega)
      have : j = 0 := by omega
      subst this
      rw [(h1 hp.1).1, (h1 hp.1).2.1, Int.add_zero, updI_s, va_up_self, updI_s]
    · have n9 : A 9 q ≠ A 9 (n + 1) := H.ne (i := 9) (i' := 9) ⟨by omega, by show q < 301; omega⟩ ⟨by omega, by show n + 1 < 301; omega⟩ (Or.inr h)
      have n10 : A 10 q ≠ A 10 (n + 1) := H.ne (i := 10) (i' := 10) ⟨by omega, by show q < 301; omega⟩ ⟨by omega, by show n + 1 < 301; omega⟩ (Or.inr h)
      rw [updI_n h, updI_n h, updI_n h, va_up_ne _ _ n9, va_up_ne _ _ n9, va_up_ne _ _ n9]
      have D := hD q a (by omega)
      refine ⟨D.1, fun j j0 j1 => ?_⟩
      rw [prs q a (by omega) j j0 j1]
      by_cases hp : p = 0
      · rw [(h0 hp).2.1]; exact D.2 j j0 j1
      · rw [(h1 hp).2.1, va_up_ne _ _ n10]; exact D.2 j j0 j1
theorem pcOK.nprem {r o v : Int} (O : pcOK kd an ai al ar mX8_rules mX8_axioms mX8_axiomCount mX8_givens mX8_givenCount mX8_wanted mX8_rows mX8_rowCount mX8_looked mX8_from mX8_needed mX8_broken mX8_places mX8_text mX8_size mX9_kind mX9_a mX9_b mX9_c mX26_rule mX26_instance mX26_premises mX26_count mX26_states mX26_right mX26_size mX10_takes mX10_name mX12_any mX14_kind mX16_kind mX18_first mX19_either A gi Ro ax na tr nt ru ins ct pr n br tx) (hr : 1 ≤ r ∧ r ≤ n) (ho : 1 ≤ o ∧ o < r) (hc : ct r < pcT (ru r)) (hv : v = if r - 1 < mX8_looked (A 0 0) then r - 1 else mX8_looked (A 0 0)) : pcOK kd an (va_up ai (A 10 r) (updI (ai (A 10 r)) (ct r) o)) al ar mX8_rules mX8_axioms mX8_axiomCount mX8_givens mX8_givenCount mX8_wanted mX8_rows mX8_rowCount (va_up mX8_looked (A 0 0) v) mX8_from mX8_needed mX8_broken mX8_places mX8_text mX8_size mX9_kind mX9_a mX9_b mX9_c mX26_rule mX26_instance mX26_premises (va_up mX26_count (A 9 r) (ct r + 1)) mX26_states mX26_right mX26_size mX10_takes mX10_name mX12_any mX14_kind mX16_kind mX18_first mX19_either A gi Ro ax na tr nt ru ins (updI ct r (ct r + 1)) (updI pr (3 * r + ct r) o) n br tx := by
  obtain ⟨⟨wa, H, da, dw, dl⟩, hI, hAT, hD, c1, c2, c3, c4⟩ := O
  obtain ⟨i1, i2, i3, i4⟩ := id hI
  have P := hI.prm
  have tb := pcT_b (ru r)
  have Pr := P r hr.1 hr.2
  have d1 := dl.1
  have vb : 0 ≤ v ∧ v ≤ mX8_looked (A 0 0) ∧ v ≤ r - 1 := by
    by_cases c : r - 1 < mX8_looked (A 0 0)
    · rw [if_pos c] at hv; omega
    · rw [if_neg c] at hv; omega
  have prs : ∀ q, 1 ≤ q → q ≤ n → ∀ j, 0 ≤ j → j < ct q → (updI pr (3 * r + ct r) o) (3 * q + j) = pr (3 * q + j) := fun q a b j c d => by
    have := P q a b
    by_cases h : q = r
    · subst h; rw [updI_n (by omega)]
    · rw [updI_n (by omega)]
  have Er : pcEr ru ins ct pr ru ins (updI ct r (ct r + 1)) (updI pr (3 * r + ct r) o) (r - 1) := fun q a b => by
    refine ⟨?_, prs q a (by omega)⟩
    rw [updI_n (by omega)]
    exact ⟨rfl, rfl, rfl⟩
  have i4' : ∀ q, 1 ≤ q → q ≤ r - 1 → pcRw ru ins ct pr na nt q := fun q a b => i4 q a (by omega)
  have n15 : A 15 0 ≠ A 10 r := H.ne (i := 15) (i' := 10) ⟨by decide, z01⟩ ⟨by omega, by show r < 301; omega⟩ (Or.inl (by decide))
  refine ⟨⟨wa, H, da, dw, (dl.lo ⟨vb.1, vb.2.1⟩).c (fun q a b => ?_) (by rw [va_up_self]; omega)⟩, ⟨i1, i2, i3, fun q a b => ?_⟩, hAT, fun q a b => ?_, c1, c2, c3, c4.1, by rw [va_up_ne _ _ n15]; exact c4.2⟩
  · rw [va_up_self] at b
    exact ⟨pcS_c i4' ⟨fun _ _ _ _ _ _ => rfl, fun _ _ _ _ _ _ => rfl⟩ Er 300 a (by omega) (by omega), pcSz_c i4' Er 300 a (by omega) (by omega)⟩
  · obtain ⟨r1, r2, r3, r4⟩ := i4 q a b
    refine ⟨r1, ?_, fun j j0 j1 => ?_, r4⟩
    · by_cases h : q = r
      · subst h; rw [updI_s]; omega
      · rw [updI_n h]; exact r2
    · by_cases h : q = r
      · subst h
        rw [updI_s] at j1
        by_cases h2 : j = ct q
        · subst h2; rw [updI_s]; exact ho
        · rw [prs q a b j j0 (by omega)]; exact r3 j j0 (by omega)
      · rw [updI_n h] at j1
        rw [prs q a b j j0 j1]
        exact r3 j j0 j1
  · have D := hD q a b
    by_cases h : q = r
    · subst h
      rw [updI_s, va_up_self]
      refine ⟨⟨D.1.1, D.1.2.1, rfl⟩, fun j j0 j1 => ?_⟩
      rw [va_up_self]
      by_cases h2 : j = ct q
      · subst h2; rw [updI_s, updI_s]
      · rw [prs q a b j j0 (by omega), updI_n h2]; exact D.2 j j0 (by omega)
    · have n9 : A 9 q ≠ A 9 r := H.ne (i := 9) (i' := 9) ⟨by omega, by show q < 301; omega⟩ ⟨by omega, by show r < 301; omega⟩ (Or.inr h)
      have n10 : A 10 q ≠ A 10 r := H.ne (i := 10) (i' := 10) ⟨by omega, by show q < 301; omega⟩ ⟨by omega, by show r < 301; omega⟩ (Or.inr h)
      rw [updI_n h, va_up_ne _ _ n9]
      refine ⟨D.1, fun j j0 j1 => ?_⟩
      rw [prs q a b j j0 j1, va_up_ne _ _ n10]
      exact D.2 j j0 j1
theorem CPC_instB {P Q : Prop} {r i : Int} (c1 : mX8_axiomCount (A 0 0) = na) (c2 : mX8_givenCount (A 0 0) = nt) (h1 : pcIn na nt r i → Q) (h0 : ¬ pcIn na nt r i → P) : wpPC_X8_isInstance (fun v => (v = 0 → P) ∧ (¬ v = 0 → Q)) mX8_axiomCount mX8_givenCount (A 0 0) r i := by
  unfold wpPC_X8_isInstance wpPC_X8_isTerm
  rw [c1, c2]
  unfold pcIn at h1 h0
  have no : ¬ ((r = 0 → 1 ≤ i ∧ i ≤ na) ∧ ((r = 1 ∨ r = 17) → 1 ≤ i ∧ i ≤ nt) ∧ (r = 2 → 0 ≤ i ∧ i < 1000)) → (((0 : Int) = 0 → P) ∧ (¬ (0 : Int) = 0 → Q)) := fun w => ⟨fun _ => h0 w, fun q => absurd rfl q⟩
  have yes : ((r = 0 → 1 ≤ i ∧ i ≤ na) ∧ ((r = 1 ∨ r = 17) → 1 ≤ i ∧ i ≤ nt) ∧ (r = 2 → 0 ≤ i ∧ i < 1000)) → (((1 : Int) = 0 → P) ∧ (¬ (1 : Int) = 0 → Q)) := fun w => ⟨fun q => absurd q (by decide), fun _ => h1 w⟩
  exact ⟨fun e => ⟨fun z => no (fun w => by have := w.1 e; omega), fun z => ⟨fun z2 => no (fun w => by have := w.1 e; omega), fun z2 => yes ⟨fun w => by omega, fun w => by omega, fun w => by omega⟩⟩⟩, fun e => ⟨fun e1 => ⟨fun z => no (fun w => by have := w.2.1 (Or.inl e1); omega), fun z => ⟨fun z2 => no (fun w => by have := w.2.1 (Or.inl e1); omega), fun z2 => yes ⟨fun w => by omega, fun w => by omega, fun w => by omega⟩⟩⟩, fun e1 => ⟨fun e2 => ⟨fun z => ⟨Or.inl rfl, no (fun w => by have := w.2.2 e2; omega)⟩, fun z => ⟨fun z2 => ⟨Or.inl rfl, no (fun w => by have := w.2.2 e2; omega)⟩, fun z2 => ⟨Or.inr rfl, yes ⟨fun w => by omega, fun w => by omega, fun w => by omega⟩⟩⟩⟩, fun e2 => ⟨fun e3 => ⟨fun z => no (fun w => by have := w.2.1 (Or.inr e3); omega), fun z => ⟨fun z2 => no (fun w => by have := w.2.1 (Or.inr e3); omega), fun z2 => yes ⟨fun w => by omega, fun w => by omega, fun w => by omega⟩⟩⟩, fun e3 => yes ⟨fun w => by omega, fun w => by omega, fun w => by omega⟩⟩⟩⟩⟩
theorem CPC_row {post : Int → (Nat → Int → Int) → (Nat → Int) → (Nat → Int) → (Nat → Int) → (Nat → Int) → Prop} {r i p : Int} (O : pcOK kd an ai al ar mX8_rules mX8_axioms mX8_axiomCount mX8_givens mX8_givenCount mX8_wanted mX8_rows mX8_rowCount mX8_looked mX8_from mX8_needed mX8_broken mX8_places mX8_text mX8_size mX9_kind mX9_a mX9_b mX9_c mX26_rule mX26_instance mX26_premises mX26_count mX26_states mX26_right mX26_size mX10_takes mX10_name mX12_any mX14_kind mX16_kind mX18_first mX19_either A gi Ro ax na tr nt ru ins ct pr n br tx) (h0 : ¬ pcRok na nt n r i p → post 0 ai mX8_rowCount mX26_rule mX26_instance mX26_count) (h1 : pcRok na nt n r i p → ∀ pr', (p = 0 → pr' = pr) → (p ≠ 0 → pr' = updI pr (3 * (n + 1)) p) → ∀ ct', ct' = updI ct (n + 1) (if p = 0 then 0 else 1) → ∀ ai' rc mr mi mc, pcOK kd an (ai') al ar mX8_rules mX8_axioms mX8_axiomCount mX8_givens mX8_givenCount mX8_wanted mX8_rows rc mX8_looked mX8_from mX8_needed mX8_broken mX8_places mX8_text mX8_size mX9_kind mX9_a mX9_b mX9_c mr mi mX26_premises mc mX26_states mX26_right mX26_size mX10_takes mX10_name mX12_any mX14_kind mX16_kind mX18_first mX19_either A gi Ro ax na tr nt (updI ru (n + 1) r) (updI ins (n + 1) i) ct' pr' (n + 1) br tx → post (n + 1) ai' rc mr mi mc) : wpPC_X8_row post kd an ai ar mX8_rules mX8_axiomCount mX8_givenCount mX8_rows mX8_rowCount mX26_rule mX26_instance mX26_premises mX26_count mX10_takes (A 0 0) r i p := by
  obtain ⟨⟨wa, H, -⟩, hI, -, -, c1, c2, c3, c4⟩ := id O
  obtain ⟨-, s2, s3, s4, s5⟩ := id H
  obtain ⟨i1, i2, i3, i4⟩ := id hI
  have k1 : kd (A 1 0) = 21 := H.k 1 0 (by decide) z01
  have l1 : an (A 1 0) = 18 := H.l 1 0 (by decide) z01 (by decide)
  have k8 : kd (A 8 0) = 23 := H.k 8 0 (by decide) z01
  have l8 : an (A 8 0) = 301 := H.l 8 0 (by decide) z01 (by decide)
  have tail : (0 ≤ r ∧ r ≤ 17) ∧ pcIn na nt r i ∧ (p = 0 ∨ ((1 ≤ p ∧ p ≤ n) ∧ pcT r ≠ 0)) → wPC_X8_row_45 post (A 0 0) r i p kd an ai ar mX8_rows mX8_rowCount mX26_rule mX26_instance mX26_premises mX26_count := fun w => by
    unfold wPC_X8_row_45
    rw [c3]
    refine ⟨fun e => h0 (fun w => w.2 e), fun e => ⟨by omega, fun v11 e11 rc erc => kOn_of s2.2.2.2.2.1 ⟨k8, ?_⟩⟩⟩
    rw [e11] at erc
    subst erc
    have k9 : kd (A 9 (n + 1)) = 3 := H.k 9 _ (by omega) (by show n + 1 < 301; omega)
    have k10 : kd (A 10 (n + 1)) = 18 := H.k 10 _ (by omega) (by show n + 1 < 301; omega)
    have l10 : an (A 10 (n + 1)) = 3 := H.l 10 _ (by omega) (by show n + 1 < 301; omega) (by decide)
    rw [va_up_self, l8]
    refine ⟨by omega, fun r16 e16 => ?_⟩
    rw [(s5 (n + 1) (by omega) (by omega)).1] at e16
    subst e16
    refine kOn_some ⟨k9, ?_⟩
    unfold wpPC_X26_set
    intro _ e1 _ e2 _ e3
    subst e1 e2 e3
    refine ⟨fun ep => ?_, fun ep => kOn_of (s5 (n + 1) (by omega) (by omega)).2.1 ⟨k10, by rw [l10]; decide, fun ai2 ea ct2 ec => ?_⟩⟩
    · exact h1 ⟨w, e⟩ pr (fun _ => rfl) (fun q => absurd ep q) _ (by rw [if_pos ep]) _ _ _ _ _ (O.nrow ⟨w, e⟩ (fun _ => ⟨rfl, rfl, rfl⟩) (fun q => absurd ep q))
    · subst ea
      subst ec
      rw [va_up_up]
      exact h1 ⟨w, e⟩ _ (fun q => absurd q ep) (fun _ => rfl) _ (by rw [if_neg ep]) _ _ _ _ _ (O.nrow ⟨w, e⟩ (fun q => absurd q ep) (fun _ => ⟨rfl, rfl, rfl⟩))
  unfold wpPC_X8_row
  refine ⟨fun z => h0 (fun w => by have := w.1.1; omega), fun z => ⟨fun z2 => h0 (fun w => by have := w.1.1; omega), fun z2 => CPC_instB c1 c2 (fun hin => ⟨fun ep => tail ⟨by omega, hin, Or.inl ep⟩, fun ep => CPC_isRowB c3 (fun hp => kOn_of s2.1 ⟨k1, by rw [l1]; omega, fun r35 e35 => ?_⟩) (fun hp => h0 (fun w => w.1.2.2.elim ep (fun q => hp q.1)))⟩) (fun hin => h0 (fun w => hin w.1.2.1))⟩⟩
  have U := s3 r (by omega) (by omega)
  rw [U.1] at e35
  subst e35
  exact kOn_some ⟨U.2.kk.1, CPC_prem U.2 ⟨fun e => h0 (fun w => w.1.2.2.elim ep (fun q => q.2 e)), fun e => tail ⟨by omega, hin, Or.inr ⟨hp, e⟩⟩⟩⟩
theorem CPC_premise {post : Int → (Nat → Int → Int) → (Nat → Int) → (Nat → Int) → Prop} {r o : Int} (O : pcOK kd an ai al ar mX8_rules mX8_axioms mX8_axiomCount mX8_givens mX8_givenCount mX8_wanted mX8_rows mX8_rowCount mX8_looked mX8_from mX8_needed mX8_broken mX8_places mX8_text mX8_size mX9_kind mX9_a mX9_b mX9_c mX26_rule mX26_instance mX26_premises mX26_count mX26_states mX26_right mX26_size mX10_takes mX10_name mX12_any mX14_kind mX16_kind mX18_first mX19_either A gi Ro ax na tr nt ru ins ct pr n br tx) (h2 : ¬ ((1 ≤ r ∧ r ≤ n) ∧ (1 ≤ o ∧ o ≤ n)) → post (-1) ai mX8_looked mX26_count) (h3 : (1 ≤ r ∧ r ≤ n) ∧ (1 ≤ o ∧ o ≤ n) → ¬ (o < r ∧ ct r < pcT (ru r)) → post (-3) ai mX8_looked mX26_count) (h1 : (1 ≤ r ∧ r ≤ n) ∧ (1 ≤ o ∧ o ≤ n) → (o < r ∧ ct r < pcT (ru r)) → ∀ ai' lo mc, pcOK kd an (ai') al ar mX8_rules mX8_axioms mX8_axiomCount mX8_givens mX8_givenCount mX8_wanted mX8_rows mX8_rowCount lo mX8_from mX8_needed mX8_broken mX8_places mX8_text mX8_size mX9_kind mX9_a mX9_b mX9_c mX26_rule mX26_instance mX26_premises mc mX26_states mX26_right mX26_size mX10_takes mX10_name mX12_any mX14_kind mX16_kind mX18_first mX19_either A gi Ro ax na tr nt ru ins (updI ct r (ct r + 1)) (updI pr (3 * r + ct r) o) n br tx → post (ct r + 1) ai' lo mc) : wpPC_X8_premise post kd an ai ar mX8_rules mX8_rows mX8_rowCount mX8_looked mX26_rule mX26_premises mX26_count mX10_takes (A 0 0) r o := by
  obtain ⟨⟨wa, H, -⟩, hI, -, hD, c1, c2, c3, c4⟩ := id O
  obtain ⟨-, s2, s3, s4, s5⟩ := id H
  obtain ⟨i1, i2, i3, i4⟩ := id hI
  have k1 : kd (A 1 0) = 21 := H.k 1 0 (by decide) z01
  have l1 : an (A 1 0) = 18 := H.l 1 0 (by decide) z01 (by decide)
  have k8 : kd (A 8 0) = 23 := H.k 8 0 (by decide) z01
  have l8 : an (A 8 0) = 301 := H.l 8 0 (by decide) z01 (by decide)
  unfold wpPC_X8_premise
  refine CPC_isRowB c3 (fun hr => CPC_isRowB c3 (fun ho => kOn_of s2.2.2.2.2.1 ⟨k8, by rw [l8]; omega, fun r10 e10 => ⟨fun z => h3 ⟨hr, ho⟩ (by omega), fun z => ?_⟩⟩) (fun ho => h2 (fun w => ho w.2))) (fun hr => h2 (fun w => hr w.1))
  have R := i4 r hr.1 hr.2
  have D := hD r hr.1 hr.2
  have S5 := s5 r (by omega) (by omega)
  have U := s3 (ru r) R.1.1 (by have := R.1; omega)
  have tb := pcT_b (ru r)
  have k9 : kd (A 9 r) = 3 := H.k 9 _ (by omega) (by show r < 301; omega)
  have k10 : kd (A 10 r) = 18 := H.k 10 _ (by omega) (by show r < 301; omega)
  have l10 : an (A 10 r) = 3 := H.l 10 _ (by omega) (by show r < 301; omega) (by decide)
  rw [S5.1] at e10
  subst e10
  refine kOn_some ⟨k9, kOn_of s2.1 ⟨k1, ?_⟩⟩
  rw [D.1.1, D.1.2.2, l1]
  refine ⟨by have := R.1; omega, fun r17 e17 => ?_⟩
  rw [U.1] at e17
  subst e17
  refine kOn_some ⟨U.2.kk.1, CPC_prem U.2 ⟨fun e => h3 ⟨hr, ho⟩ (by omega), fun e => kOn_of S5.2.1 ⟨k10, by rw [l10]; have := R.2.1; omega, fun ai2 ea => ⟨by have := R.2.1; omega, fun v30 e30 mc ec => ⟨by omega, fun v36 e36 lo el => ?_⟩⟩⟩⟩⟩
  subst ea
  rw [e30] at ec
  subst ec
  subst el
  rw [va_up_self]
  exact h1 ⟨hr, ho⟩ ⟨by omega, by have := R.2.1; omega⟩ _ _ _ (O.nprem hr ⟨ho.1, by omega⟩ (by have := R.2.1; omega) e36)
theorem CPC_name {post : Int → Prop} {root : Int} (O : pcOK kd an ai al ar mX8_rules mX8_axioms mX8_axiomCount mX8_givens mX8_givenCount mX8_wanted mX8_rows mX8_rowCount mX8_looked mX8_from mX8_needed mX8_broken mX8_places mX8_text mX8_size mX9_kind mX9_a mX9_b mX9_c mX26_rule mX26_instance mX26_premises mX26_count mX26_states mX26_right mX26_size mX10_takes mX10_name mX12_any mX14_kind mX16_kind mX18_first mX19_either A gi Ro ax na tr nt ru ins ct pr n br tx) (hp : post (if 1 ≤ root ∧ root ≤ n then ru root else -1)) : wpPC_X8_name post kd an ar mX8_rows mX8_rowCount mX26_rule (A 0 0) root := by
  obtain ⟨⟨wa, H, -⟩, hI, -, hD, c1, c2, c3, c4⟩ := id O
  obtain ⟨-, s2, s3, s4, s5⟩ := id H
  obtain ⟨i1, i2, i3, i4⟩ := id hI
  have k8 : kd (A 8 0) = 23 := H.k 8 0 (by decide) z01
  have l8 : an (A 8 0) = 301 := H.l 8 0 (by decide) z01 (by decide)
  unfold wpPC_X8_name
  refine CPC_isRowB c3 (fun hr => kOn_of s2.2.2.2.2.1 ⟨k8, by rw [l8]; omega, fun r7 e7 => ?_⟩) (fun hr => by rw [if_neg hr] at hp; exact hp)
  rw [(s5 root (by omega) (by omega)).1] at e7
  subst e7
  rw [if_pos hr] at hp
  refine kOn_some ⟨H.k 9 _ (by omega) (by show root < 301; omega), ?_⟩
  rw [(hD root hr.1 hr.2).1.1]
  exact hp
end
