/-! RightDesk (room RD): a new condition -/
/-- what was there is as it was; what is new is a condition or its row -/
def rdFm (kd an : Nat → Nat) (ai : Nat → Int → Int) (k n : Nat → Int) (gp : Nat → Option Nat) (fr to of ls : Nat → Int) (op : Nat → Option Nat) (kd' an' : Nat → Nat) (ai' : Nat → Int → Int) (k' n' : Nat → Int) (gp' : Nat → Option Nat) (fr' to' of' ls' : Nat → Int) (op' : Nat → Option Nat) : Prop :=
  (∀ a, kd a ≠ 0 → (kd' a = kd a ∧ an' a = an a ∧ ai' a = ai a) ∧ k' a = k a ∧ n' a = n a ∧ gp' a = gp a ∧ fr' a = fr a ∧ to' a = to a ∧ of' a = of a ∧ ls' a = ls a ∧ op' a = op a) ∧ ∀ a, kd a = 0 → kd' a ≠ 15
section
variable {kd : Nat → Nat} {an : Nat → Nat} {ai : Nat → Int → Int} {al : Nat → Int → Int} {ar : Nat → Int → Option Nat} {mX27_groups : Nat → Option Nat} {mX27_conditions : Nat → Option Nat} {mX27_rules : Nat → Option Nat} {mX27_sets : Nat → Option Nat} {mX27_right : Nat → Int} {mX27_known : Nat → Option Nat} {mX27_asks : Nat → Option Nat} {mX27_done : Nat → Option Nat} {mX27_more : Nat → Option Nat} {mX27_its : Nat → Option Nat} {mX27_allowed : Nat → Option Nat} {mX27_other : Nat → Option Nat} {mX27_order : Nat → Option Nat} {mX28_person : Nat → Int} {mX28_graph : Nat → Int} {mX28_predicate : Nat → Int} {mX28_class0 : Nat → Int} {mX28_version : Nat → Int} {mX75_kind : Nat → Int} {mX75_number : Nat → Int} {mX75_groups : Nat → Option Nat} {mX76_from : Nat → Int} {mX76_to : Nat → Int} {mX77_of : Nat → Int} {mX78_least : Nat → Int} {mX78_of : Nat → Option Nat} {mX80_rank : Nat → Int} {mX80_denies : Nat → Int} {mX80_condition : Nat → Int} {mJ1_modCount : Nat → Int} {mJ2_elementData : Nat → Option Nat} {mJ2_size : Nat → Int} {mJ4_words : Nat → Option Nat} {mJ4_wordsInUse : Nat → Int} {mJ4_sizeIsSticky : Nat → Int} {sa : Nat → Nat} {o : Nat} {T : Int} {g kk a b c rk dn wn : Int → Int} {nc nr q : Int} {MC MS : Nat} {A : Nat → Int → Nat} {gi : Nat → Nat × Int} {e0 e1 e2 : Nat} {f0 f1 : Int → Nat} {D : Int → Nat} {B : Int → Int → Prop} {t x y z : Int} {kc ks : Nat}
theorem CRD_mk84 {post : (Option Nat) → (Nat → Nat) → (Nat → Nat) → (Nat → Int → Int) → (Nat → Int) → (Nat → Int) → (Nat → Option Nat) → (Nat → Int) → (Nat → Int) → (Nat → Int) → (Nat → Int) → (Nat → Option Nat) → Prop} {M : Int} (S : rdS0 kd an ai al ar mX27_groups mX27_conditions mX27_rules mX27_sets mX27_right mX27_known mX27_asks mX27_done mX27_more mX27_its mX27_allowed mX27_other mX27_order mX28_person mX28_graph mX28_predicate mX28_class0 mX28_version mX75_kind mX75_number mX75_groups mX76_from mX76_to mX77_of mX78_least mX78_of mX80_rank mX80_denies mX80_condition mJ1_modCount mJ2_elementData mJ2_size mJ4_words mJ4_wordsInUse mJ4_sizeIsSticky sa A gi g kk a b c nc rk dn wn nr e0 f0 e1 f1 e2 D) (ht : 0 ≤ t ∧ t ≤ 4) (hM : zTab sg4 t = M) (hMC : 2 ≤ MC) (hMS : 5 ≤ MS) (h0 : ¬ (0 ≤ x ∧ x < M) → post none kd an ai mX75_kind mX75_number mX75_groups mX76_from mX76_to mX77_of mX78_least mX78_of)
    (h1 : (0 ≤ x ∧ x < M) → ∀ o kd' an' ai' k' n' gp' fr' to' of' ls' op', rdFm kd an ai mX75_kind mX75_number mX75_groups mX76_from mX76_to mX77_of mX78_least mX78_of kd' an' ai' k' n' gp' fr' to' of' ls' op' → rdCo kd' an' ai' k' n' gp' fr' to' of' ls' op' (A 1 0) (A 2 0) t x y z o → kd o = 0 → post (some o) kd' an' ai' k' n' gp' fr' to' of' ls' op') : wRD_X27_make_84 MC MS post (A 0 0) t x kd an ai mX27_groups mX75_kind mX75_number mX75_groups mX76_from mX76_to mX77_of mX78_least mX78_of ((0 : Nat)) ((0 : Nat)) := by
  unfold wRD_X27_make_84
  rw [hM]
  refine ⟨by omega, ⟨by omega, by omega⟩, CRD_isInB (fun a1 a2 => ⟨⟨by omega, by omega⟩, fun u hu _ q1 _ q2 _ q3 => ⟨⟨by omega, by omega⟩, ?_⟩⟩) (fun w => ⟨by omega, by omega, h0 w⟩)⟩
  unfold wpRD_X75_init
  intro _ r1 _ r2 _ r3
  subst q1 q2 q3 r1 r2 r3
  refine ⟨by omega, by omega, h1 ⟨a1, a2⟩ u _ _ _ _ _ _ _ _ _ _ _ ⟨fun a ha => ?_, fun a ha => ?_⟩ (Or.inl ⟨ht, va_up_self _ _ _, by rw [va_up_self], by rw [va_up_self], by rw [va_up_self]; exact S.2.1.1.1⟩) hu⟩
  · have : a ≠ u := fun e => ha (by rw [e]; exact hu)
    rw [va_up_ne _ _ this, va_up_ne _ _ this, va_up_ne _ _ this, va_up_ne _ _ this, va_up_ne _ _ this, va_up_ne _ _ this, va_up_ne _ _ this]
    exact ⟨⟨rfl, rfl, rfl⟩, rfl, rfl, rfl, rfl, rfl, rfl, rfl, rfl⟩
  · by_cases e : a = u
    · rw [e, va_up_self]; decide
    · rw [va_up_ne _ _ e, ha]; decide
/-- at least so many of a row -/
theorem rdCo_some {G O u p : Nat} {L : Nat} {F : Int → Int} {l : Int} (hu : kd u = 0) (hp : va_up kd u 6 p = 0) (kG : kd G = 11) (kO : kd O = 11) (ht : t = 7 ∨ t = 8 ∨ t = 10) (hl : l = if t = 8 then 1 else 2) (hL : L = if t = 10 then 3 else 2) (f0 : F 0 = x) (f1 : F 1 = y) (f2 : t = 10 → F 2 = z) :
    rdFm kd an ai mX75_kind mX75_number mX75_groups mX76_from mX76_to mX77_of mX78_least mX78_of (va_up (va_up kd u 6) p 11) (va_up an p L) (va_up ai p F) mX75_kind mX75_number mX75_groups mX76_from mX76_to mX77_of (va_up mX78_least u l) (va_up mX78_of u (some p)) ∧
    rdCo (va_up (va_up kd u 6) p 11) (va_up an p L) (va_up ai p F) mX75_kind mX75_number mX75_groups mX76_from mX76_to mX77_of (va_up mX78_least u l) (va_up mX78_of u (some p)) G O t x y z u := by
  have pu : u ≠ p := fun e => by rw [← e, va_up_self] at hp; exact absurd hp (by decide)
  have hp0 : kd p = 0 := by rw [va_up_ne _ _ pu.symm] at hp; exact hp
  refine ⟨⟨fun a ha => ?_, fun a ha => ?_⟩, Or.inr (Or.inr (Or.inr (Or.inl ⟨ht, by rw [va_up_ne _ _ pu, va_up_self], by rw [va_up_self]; exact hl, p, va_up_self _ _ _, va_up_self _ _ _, ⟨?_, ?_⟩, by rw [va_up_self]; exact hL, by rw [va_up_self]; exact f0, by rw [va_up_self]; exact f1, by rw [va_up_self]; exact f2⟩)))⟩
  · have n1 : a ≠ u := fun e => ha (by rw [e]; exact hu)
    have n2 : a ≠ p := fun e => ha (by rw [e]; exact hp0)
    rw [va_up_ne _ _ n2, va_up_ne _ _ n1, va_up_ne _ _ n2, va_up_ne _ _ n2, va_up_ne _ _ n1, va_up_ne _ _ n1]
    exact ⟨⟨rfl, rfl, rfl⟩, rfl, rfl, rfl, rfl, rfl, rfl, rfl, rfl⟩
  · by_cases e : a = p
    · rw [e, va_up_self]; decide
    · rw [va_up_ne _ _ e]
      by_cases e2 : a = u
      · rw [e2, va_up_self]; decide
      · rw [va_up_ne _ _ e2, ha]; decide
  · exact fun e => by rw [e, kG] at hp0; exact absurd hp0 (by decide)
  · exact fun e => by rw [e, kO] at hp0; exact absurd hp0 (by decide)
theorem CRD_mk172 {post : (Option Nat) → (Nat → Nat) → (Nat → Nat) → (Nat → Int → Int) → (Nat → Int) → (Nat → Int) → (Nat → Option Nat) → (Nat → Int) → (Nat → Int) → (Nat → Int) → (Nat → Int) → (Nat → Option Nat) → Prop} {w : Int} (S : rdS0 kd an ai al ar mX27_groups mX27_conditions mX27_rules mX27_sets mX27_right mX27_known mX27_asks mX27_done mX27_more mX27_its mX27_allowed mX27_other mX27_order mX28_person mX28_graph mX28_predicate mX28_class0 mX28_version mX75_kind mX75_number mX75_groups mX76_from mX76_to mX77_of mX78_least mX78_of mX80_rank mX80_denies mX80_condition mJ1_modCount mJ2_elementData mJ2_size mJ4_words mJ4_wordsInUse mJ4_sizeIsSticky sa A gi g kk a b c nc rk dn wn nr e0 f0 e1 f1 e2 D) (ht : t = 7 ∨ t = 8) (hMC : 2 ≤ MC) (hMS : 5 ≤ MS) (h0 : w = 0 → post none kd an ai mX75_kind mX75_number mX75_groups mX76_from mX76_to mX77_of mX78_least mX78_of)
    (h1 : ¬ w = 0 → ∀ o kd' an' ai' k' n' gp' fr' to' of' ls' op', rdFm kd an ai mX75_kind mX75_number mX75_groups mX76_from mX76_to mX77_of mX78_least mX78_of kd' an' ai' k' n' gp' fr' to' of' ls' op' → rdCo kd' an' ai' k' n' gp' fr' to' of' ls' op' (A 1 0) (A 2 0) t x y z o → kd o = 0 → post (some o) kd' an' ai' k' n' gp' fr' to' of' ls' op') : wRD_X27_make_172 MC MS post t x y w kd an ai mX75_kind mX75_number mX75_groups mX76_from mX76_to mX77_of mX78_least mX78_of ((0 : Nat)) ((0 : Nat)) := by
  have kG : kd (A 1 0) = 11 := S.k 1 0 (by decide) z01
  have kO : kd (A 2 0) = 11 := S.k 2 0 (by decide) z01
  unfold wRD_X27_make_172
  refine ⟨fun e => ⟨by omega, by omega, h0 e⟩, fun e => ⟨⟨by omega, by omega⟩, fun u hu _ q1 _ q2 => ⟨⟨by omega, by omega⟩, fun p hp _ q3 => ⟨⟨by decide, by rw [va_up_self]; decide⟩, fun _ q4 => ⟨⟨by decide, by rw [va_up_self]; decide⟩, fun _ q5 => ⟨by omega, ⟨by omega, by omega⟩, ?_⟩⟩⟩⟩⟩⟩
  unfold wpRD_X78_init
  intro _ r1 _ r2
  subst q1 q2 q3 q4 q5 r1 r2
  simp only [va_up_up, va_up_self]
  obtain ⟨F1, F2⟩ := rdCo_some (an := an) (ai := ai) (mX75_kind := mX75_kind) (mX75_number := mX75_number) (mX75_groups := mX75_groups) (mX76_from := mX76_from) (mX76_to := mX76_to) (mX77_of := mX77_of) (mX78_least := mX78_least) (mX78_of := mX78_of) (z := z) (F := updI (updI (fun _ => 0) 0 x) 1 y) (l := 9 - t) (t := t) (L := 2) hu hp kG kO (by omega) (by rcases ht with e | e <;> rw [e] <;> rfl) (by rw [if_neg (by omega)]) (by rw [updI_n (by decide), updI_s]) (by rw [updI_s]) (fun w => by omega)
  exact ⟨by omega, by omega, h1 e u _ _ _ _ _ _ _ _ _ _ _ F1 F2 hu⟩
theorem CRD_make {post : (Option Nat) → (Nat → Nat) → (Nat → Nat) → (Nat → Int → Int) → (Nat → Int) → (Nat → Int) → (Nat → Option Nat) → (Nat → Int) → (Nat → Int) → (Nat → Int) → (Nat → Int) → (Nat → Option Nat) → Prop} (S : rdS0 kd an ai al ar mX27_groups mX27_conditions mX27_rules mX27_sets mX27_right mX27_known mX27_asks mX27_done mX27_more mX27_its mX27_allowed mX27_other mX27_order mX28_person mX28_graph mX28_predicate mX28_class0 mX28_version mX75_kind mX75_number mX75_groups mX76_from mX76_to mX77_of mX78_least mX78_of mX80_rank mX80_denies mX80_condition mJ1_modCount mJ2_elementData mJ2_size mJ4_words mJ4_wordsInUse mJ4_sizeIsSticky sa A gi g kk a b c nc rk dn wn nr e0 f0 e1 f1 e2 D) (hMC : 2 ≤ MC) (hMS : 5 ≤ MS) (h0 : ¬ rdFit nc t x y z → post none kd an ai mX75_kind mX75_number mX75_groups mX76_from mX76_to mX77_of mX78_least mX78_of)
    (h1 : rdFit nc t x y z → ∀ o kd' an' ai' k' n' gp' fr' to' of' ls' op', rdFm kd an ai mX75_kind mX75_number mX75_groups mX76_from mX76_to mX77_of mX78_least mX78_of kd' an' ai' k' n' gp' fr' to' of' ls' op' → rdCo kd' an' ai' k' n' gp' fr' to' of' ls' op' (A 1 0) (A 2 0) t x y z o → kd o = 0 → post (some o) kd' an' ai' k' n' gp' fr' to' of' ls' op') : wpRD_X27_make MC MS post kd an ai mX27_groups mX27_conditions mX75_kind mX75_number mX75_groups mX76_from mX76_to mX77_of mX78_least mX78_of mJ2_size (A 0 0) t x y z := by
  have kG : kd (A 1 0) = 11 := S.k 1 0 (by decide) z01
  have kO : kd (A 2 0) = 11 := S.k 2 0 (by decide) z01
  have main : ∀ w : Int, (w = 0 ∧ ¬ ((0 ≤ x ∧ x < nc) ∧ (0 ≤ y ∧ y < nc)) ∨ w = 1 ∧ ((0 ≤ x ∧ x < nc) ∧ (0 ≤ y ∧ y < nc))) → wRD_X27_make_21 MC MS post (A 0 0) t x y z w kd an ai mX27_groups mX27_conditions mX75_kind mX75_number mX75_groups mX76_from mX76_to mX77_of mX78_least mX78_of mJ2_size ((0 : Nat)) ((0 : Nat)) := by
    intro w hw
    have iw : ¬ w = 0 ↔ ((0 ≤ x ∧ x < nc) ∧ (0 ≤ y ∧ y < nc)) := by omega
    unfold rdFit at h0 h1
    unfold wRD_X27_make_21
    refine ⟨fun c0 => ?_, fun c0 => ⟨fun c1 => ?_, fun c1 => ⟨fun c2 => ?_, fun c2 => ⟨fun c3 => ?_, fun c3 => ⟨fun c4 => ?_, fun c4 => ⟨fun c5 => ?_, fun c5 => ⟨fun c6 => ?_, fun c6 => ⟨fun c7 => ?_, fun c7 => ⟨fun c8 => ?_, fun c8 => ⟨fun c9 => ?_, fun c9 => ⟨fun c10 => ?_, fun c10 => ?_⟩⟩⟩⟩⟩⟩⟩⟩⟩⟩⟩
    · rw [if_pos (Or.inl c0)] at h0 h1
      exact CRD_mk84 S (by omega) (by rw [c0]; rfl) hMC hMS h0 h1
    · rw [if_pos (Or.inr c1)] at h0 h1
      exact CRD_mk84 S (by omega) (by rw [c1]; rfl) hMC hMS h0 h1
    · rw [if_neg (by omega), if_pos (Or.inl c2)] at h0 h1
      exact CRD_mk84 S (by omega) (by rw [c2]; rfl) hMC hMS h0 h1
    · rw [if_neg (by omega), if_neg (by omega), if_pos c3] at h0 h1
      exact CRD_mk84 S (by omega) (by rw [c3]; rfl) hMC hMS h0 h1
    · rw [if_neg (by omega), if_pos (Or.inr c4)] at h0 h1
      exact CRD_mk84 S (by omega) (by rw [c4]; rfl) hMC hMS h0 h1
    · rw [if_neg (by omega), if_neg (by omega), if_neg c3, if_pos c5] at h0 h1
      refine ⟨⟨by omega, by omega⟩, CRD_isInB (fun a1 a2 => ⟨⟨by omega, by omega⟩, CRD_isInB (fun b1 b2 => ⟨fun v => ⟨by omega, by omega, h0 (fun q => by omega)⟩, fun v => ⟨⟨by omega, by omega⟩, fun u hu _ q1 _ q2 => ⟨⟨by omega, by omega⟩, ?_⟩⟩⟩) (fun v => ⟨by omega, by omega, h0 (fun q => v q.2.1)⟩)⟩) (fun v => ⟨by omega, by omega, h0 (fun q => v q.1)⟩)⟩
      unfold wpRD_X76_init
      intro _ r1 _ r2
      subst q1 q2 r1 r2
      refine ⟨by omega, by omega, h1 ⟨⟨a1, a2⟩, ⟨b1, b2⟩, by omega⟩ u _ _ _ _ _ _ _ _ _ _ _ ⟨fun a ha => ?_, fun a ha => ?_⟩ (Or.inr (Or.inl ⟨c5, va_up_self _ _ _, by rw [va_up_self], by rw [va_up_self]⟩)) hu⟩
      · have : a ≠ u := fun e => ha (by rw [e]; exact hu)
        rw [va_up_ne _ _ this, va_up_ne _ _ this, va_up_ne _ _ this, va_up_ne _ _ this, va_up_ne _ _ this]
        exact ⟨⟨rfl, rfl, rfl⟩, rfl, rfl, rfl, rfl, rfl, rfl, rfl, rfl⟩
      · by_cases e : a = u
        · rw [e, va_up_self]; decide
        · rw [va_up_ne _ _ e, ha]; decide
    · rw [if_neg (by omega), if_neg (by omega), if_neg c3, if_neg c5, if_pos c6] at h0 h1
      refine ⟨⟨by omega, by omega⟩, CRD_isCond S (fun a1 a2 => ⟨⟨by omega, by omega⟩, fun u hu _ q1 => ⟨⟨by omega, by omega⟩, ?_⟩⟩) (fun v => ⟨by omega, by omega, h0 v⟩)⟩
      unfold wpRD_X77_init
      intro _ r1
      subst q1 r1
      refine ⟨by omega, by omega, h1 ⟨a1, a2⟩ u _ _ _ _ _ _ _ _ _ _ _ ⟨fun a ha => ?_, fun a ha => ?_⟩ (Or.inr (Or.inr (Or.inl ⟨c6, va_up_self _ _ _, by rw [va_up_self]⟩))) hu⟩
      · have : a ≠ u := fun e => ha (by rw [e]; exact hu)
        rw [va_up_ne _ _ this, va_up_ne _ _ this, va_up_ne _ _ this]
        exact ⟨⟨rfl, rfl, rfl⟩, rfl, rfl, rfl, rfl, rfl, rfl, rfl, rfl⟩
      · by_cases e : a = u
        · rw [e, va_up_self]; decide
        · rw [va_up_ne _ _ e, ha]; decide
    · rw [if_neg (by omega), if_neg (by omega), if_neg c3, if_neg c5, if_neg c6, if_pos (Or.inl c7)] at h0 h1
      exact CRD_mk172 S (Or.inl c7) hMC hMS (fun e => h0 (fun q => iw.mpr q e)) (fun e => h1 (iw.mp e))
    · rw [if_neg (by omega), if_neg (by omega), if_neg c3, if_neg c5, if_neg c6, if_pos (Or.inr c8)] at h0 h1
      exact CRD_mk172 S (Or.inr c8) hMC hMS (fun e => h0 (fun q => iw.mpr q e)) (fun e => h1 (iw.mp e))
    · rw [if_neg (by omega), if_neg (by omega), if_neg c3, if_neg c5, if_neg c6, if_neg (by omega), if_pos c9] at h0 h1
      refine ⟨⟨by omega, by omega⟩, fun u hu => ⟨⟨by omega, by omega⟩, ?_⟩⟩
      unfold wpRD_X79_init
      refine ⟨by omega, by omega, h1 trivial u _ _ _ _ _ _ _ _ _ _ _ ⟨fun a ha => ?_, fun a ha => ?_⟩ (Or.inr (Or.inr (Or.inr (Or.inr ⟨c9, va_up_self _ _ _⟩)))) hu⟩
      · have : a ≠ u := fun e => ha (by rw [e]; exact hu)
        rw [va_up_ne _ _ this]
        exact ⟨⟨rfl, rfl, rfl⟩, rfl, rfl, rfl, rfl, rfl, rfl, rfl, rfl⟩
      · by_cases e : a = u
        · rw [e, va_up_self]; decide
        · rw [va_up_ne _ _ e, ha]; decide
    · rw [if_neg (by omega), if_neg (by omega), if_neg c3, if_neg c5, if_neg c6, if_neg (by omega), if_neg c9, if_pos c10] at h0 h1
      refine ⟨fun e => ⟨by omega, by omega, h0 (fun q => iw.mpr ⟨q.1, q.2.1⟩ e)⟩, fun e => ⟨⟨by omega, by omega⟩, CRD_isCond S (fun a1 a2 => ⟨⟨by omega, by omega⟩, fun u hu _ q1 _ q2 => ⟨⟨by omega, by omega⟩, fun p hp _ q3 => ⟨⟨by decide, by rw [va_up_self]; decide⟩, fun _ q4 => ⟨⟨by decide, by rw [va_up_self]; decide⟩, fun _ q5 => ⟨⟨by decide, by rw [va_up_self]; decide⟩, fun _ q6 => ⟨⟨by omega, by omega⟩, ?_⟩⟩⟩⟩⟩⟩) (fun v => ⟨by omega, by omega, h0 (fun q => v q.2.2)⟩)⟩⟩
      unfold wpRD_X78_init
      intro _ r1 _ r2
      subst q1 q2 q3 q4 q5 q6 r1 r2
      simp only [va_up_up, va_up_self]
      obtain ⟨F1, F2⟩ := rdCo_some (an := an) (ai := ai) (mX75_kind := mX75_kind) (mX75_number := mX75_number) (mX75_groups := mX75_groups) (mX76_from := mX76_from) (mX76_to := mX76_to) (mX77_of := mX77_of) (mX78_least := mX78_least) (mX78_of := mX78_of) (x := x) (y := y) (z := z) (F := updI (updI (updI (fun _ => 0) 0 x) 1 y) 2 z) (l := 2) (t := t) (L := 3) hu hp kG kO (by omega) (by rw [if_neg (by omega)]) (by rw [if_pos c10]) (by rw [updI_n (by decide), updI_n (by decide), updI_s]) (by rw [updI_n (by decide), updI_s]) (fun _ => by rw [updI_s])
      exact ⟨by omega, by omega, h1 ⟨(iw.mp e).1, (iw.mp e).2, a1, a2⟩ u _ _ _ _ _ _ _ _ _ _ _ F1 F2 hu⟩
    · rw [if_neg (by omega), if_neg (by omega), if_neg c3, if_neg c5, if_neg c6, if_neg (by omega), if_neg c9, if_neg c10] at h0 h1
      exact ⟨by omega, by omega, h0 id⟩
  unfold wpRD_X27_make
  refine ⟨⟨by omega, by omega⟩, CRD_isCond S (fun a1 a2 => ⟨⟨by omega, by omega⟩, CRD_isCond S (fun b1 b2 => main 1 (Or.inr ⟨rfl, ⟨a1, a2⟩, b1, b2⟩)) (fun v => main 0 (Or.inl ⟨rfl, fun q => v q.2⟩))⟩) (fun v => main 0 (Or.inl ⟨rfl, fun q => v q.1⟩))⟩
/-- a new bit set -/
theorem CRD_bsnew {post : (Nat → Nat) → (Nat → Nat) → (Nat → Int → Int) → (Nat → Option Nat) → (Nat → Int) → (Nat → Int) → Prop} {al : Nat → Int → Int} {wd : Nat → Option Nat} {iu st : Nat → Int} {u : Nat} (hMC : 1 ≤ MC) (hMS : 96 ≤ MS) (hp : ∀ w, kd w = 0 → post (va_up kd w 13) (va_up an w 96) (va_up al w (fun _ => 0)) (va_up wd u (some w)) (va_up iu u 0) (va_up (va_up st u 0) u 1)) : wpRD_J4_init MC MS post kd an al wd iu st u 6144 := by
  unfold wpRD_J4_init
  intro _ q1 _ q2
  refine ⟨fun _ => ⟨1, 96, ⟨by omega, by omega⟩, ?_⟩, fun z => absurd (by decide) z⟩
  unfold wpRD_J4_initWords wpRD_J4_wordIndex
  refine ⟨by decide, ⟨by omega, by omega⟩, by decide, fun n en => ?_⟩
  have en : n = 96 := en
  subst en
  refine ⟨by decide, ⟨by decide, by decide⟩, fun w hw _ q3 _ q4 _ q5 _ q6 => ⟨by decide, by omega, fun _ _ q7 => ⟨by omega, by omega, ?_⟩⟩⟩
  subst q1 q2 q3 q5 q6 q7
  exact hp w hw
end
