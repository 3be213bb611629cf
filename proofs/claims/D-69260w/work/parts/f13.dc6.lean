/-! RightDesk (room RD): what rules decide, told -/
section
variable {kd : Nat → Nat} {an : Nat → Nat} {ai : Nat → Int → Int} {al : Nat → Int → Int} {ar : Nat → Int → Option Nat} {mX27_groups : Nat → Option Nat} {mX27_conditions : Nat → Option Nat} {mX27_rules : Nat → Option Nat} {mX27_sets : Nat → Option Nat} {mX27_right : Nat → Int} {mX27_known : Nat → Option Nat} {mX27_asks : Nat → Option Nat} {mX27_done : Nat → Option Nat} {mX27_more : Nat → Option Nat} {mX27_its : Nat → Option Nat} {mX27_allowed : Nat → Option Nat} {mX27_other : Nat → Option Nat} {mX27_order : Nat → Option Nat} {mX28_person : Nat → Int} {mX28_graph : Nat → Int} {mX28_predicate : Nat → Int} {mX28_class0 : Nat → Int} {mX28_version : Nat → Int} {mX75_kind : Nat → Int} {mX75_number : Nat → Int} {mX75_groups : Nat → Option Nat} {mX76_from : Nat → Int} {mX76_to : Nat → Int} {mX77_of : Nat → Int} {mX78_least : Nat → Int} {mX78_of : Nat → Option Nat} {mX80_rank : Nat → Int} {mX80_denies : Nat → Int} {mX80_condition : Nat → Int} {mJ1_modCount : Nat → Int} {mJ2_elementData : Nat → Option Nat} {mJ2_size : Nat → Int} {mJ4_words : Nat → Option Nat} {mJ4_wordsInUse : Nat → Int} {mJ4_sizeIsSticky : Nat → Int} {sa : Nat → Nat} {o : Nat} {T : Int} {g kk a b c rk dn wn : Int → Int} {nc nr q : Int} {MC MS : Nat}
theorem rdDec_w {w w' : Int} (h : w < 0) (h' : w' < 0) : rdDec g kk a b c rk dn wn nr q w = rdDec g kk a b c rk dn wn nr q w' := rdB_w h h' _
theorem rdAl_w {w w' : Int} (h : w < 0) (h' : w' < 0) : rdAl g kk a b c rk dn wn nr q w ↔ rdAl g kk a b c rk dn wn nr q w' := by unfold rdAl; rw [rdDec_w h h']
theorem CRD_allowed {post : Int → (Nat → Nat) → (Nat → Nat) → (Nat → Int → Int) → (Nat → Int → Int) → (Nat → Int) → (Nat → Option Nat) → (Nat → Int) → (Nat → Int) → Prop} (H : rdOK kd an ai al ar mX27_groups mX27_conditions mX27_rules mX27_sets mX27_right mX27_known mX27_asks mX27_done mX27_more mX27_its mX27_allowed mX27_other mX27_order mX28_person mX28_graph mX28_predicate mX28_class0 mX28_version mX75_kind mX75_number mX75_groups mX76_from mX76_to mX77_of mX78_least mX78_of mX80_rank mX80_denies mX80_condition mJ1_modCount mJ2_elementData mJ2_size mJ4_words mJ4_wordsInUse mJ4_sizeIsSticky sa o T g kk a b c nc rk dn wn nr) (hp : ∀ ai' al' iu' rt', rdOK kd an (ai') (al') ar mX27_groups mX27_conditions mX27_rules mX27_sets (rt') mX27_known mX27_asks mX27_done mX27_more mX27_its mX27_allowed mX27_other mX27_order mX28_person mX28_graph mX28_predicate mX28_class0 mX28_version mX75_kind mX75_number mX75_groups mX76_from mX76_to mX77_of mX78_least mX78_of mX80_rank mX80_denies mX80_condition mJ1_modCount mJ2_elementData mJ2_size mJ4_words (iu') mJ4_sizeIsSticky sa o T g kk a b c nc rk dn wn nr → post (rdAllowed g kk a b c rk dn wn nr) kd an ai' al' rt' mJ4_words iu' mJ4_sizeIsSticky) : wpRD_X27_allowed MC MS post kd an ai al ar mX27_conditions mX27_rules mX27_sets mX27_right mX27_known mX27_asks mX27_done mX27_more mX27_its mX27_allowed mX27_order mX28_person mX28_graph mX28_predicate mX28_class0 mX28_version mX75_kind mX75_number mX75_groups mX76_from mX76_to mX77_of mX78_least mX78_of mX80_rank mX80_denies mX80_condition mJ2_elementData mJ2_size mJ4_words mJ4_wordsInUse mJ4_sizeIsSticky o := by
  obtain ⟨A, gi, e0, f0, e1, f1, e2, D, B, rfl, S, hB, hT, hM, hE⟩ := id H
  have zz : (0 ≤ MC ∧ 0 ≤ MS) := ⟨Nat.zero_le _, Nat.zero_le _⟩
  have hC := S.2.2.1.1.1
  unfold wpRD_X27_allowed
  unfold rdAllowed at hp
  rw [S.2.1.2.2.2.2.2.1]
  refine ⟨0, 0, zz, CRD_decided S hB hT (Or.inl rfl) (fun f2 f3 al' iu' rt' B' hB' hT' h3 h2 ho _ => kOn_some ⟨S.k 6 3 (by decide) (by show (3 : Int) < 5 + nc; omega), zz, CRD_bcard S.1 hB' (by decide) (by omega) ⟨zz.1, zz.2, ?_⟩⟩)⟩
  have e : cntI (B' 3) 6144 = cntI (fun q => rdAl g kk a b c rk dn wn nr q (-1)) 6144 := cntI_c (fun q q0 q1 => (h3 q q0 q1).trans (rdAl_w (by decide) (by decide)))
  rw [e]
  exact hp _ _ _ _ ⟨A, gi, e0, f0, e1, f1, e2, D, B', rfl, (S.ai2 f2).ai3 f3, hB', hT', hM, hE⟩
theorem CRD_decides {post : Int → (Nat → Nat) → (Nat → Nat) → (Nat → Int → Int) → (Nat → Int → Int) → (Nat → Int) → (Nat → Option Nat) → (Nat → Int) → (Nat → Int) → Prop} {x : Int} (H : rdOK kd an ai al ar mX27_groups mX27_conditions mX27_rules mX27_sets mX27_right mX27_known mX27_asks mX27_done mX27_more mX27_its mX27_allowed mX27_other mX27_order mX28_person mX28_graph mX28_predicate mX28_class0 mX28_version mX75_kind mX75_number mX75_groups mX76_from mX76_to mX77_of mX78_least mX78_of mX80_rank mX80_denies mX80_condition mJ1_modCount mJ2_elementData mJ2_size mJ4_words mJ4_wordsInUse mJ4_sizeIsSticky sa o T g kk a b c nc rk dn wn nr) (hp : ∀ ai' al' iu' rt', rdOK kd an (ai') (al') ar mX27_groups mX27_conditions mX27_rules mX27_sets (rt') mX27_known mX27_asks mX27_done mX27_more mX27_its mX27_allowed mX27_other mX27_order mX28_person mX28_graph mX28_predicate mX28_class0 mX28_version mX75_kind mX75_number mX75_groups mX76_from mX76_to mX77_of mX78_least mX78_of mX80_rank mX80_denies mX80_condition mJ1_modCount mJ2_elementData mJ2_size mJ4_words (iu') mJ4_sizeIsSticky sa o T g kk a b c nc rk dn wn nr → post (rdDecides g kk a b c rk dn wn nr x) kd an ai' al' rt' mJ4_words iu' mJ4_sizeIsSticky) : wpRD_X27_decides MC MS post kd an ai al ar mX27_conditions mX27_rules mX27_sets mX27_right mX27_known mX27_asks mX27_done mX27_more mX27_its mX27_allowed mX27_order mX28_person mX28_graph mX28_predicate mX28_class0 mX28_version mX75_kind mX75_number mX75_groups mX76_from mX76_to mX77_of mX78_least mX78_of mX80_rank mX80_denies mX80_condition mJ2_elementData mJ2_size mJ4_words mJ4_wordsInUse mJ4_sizeIsSticky o x := by
  obtain ⟨A, gi, e0, f0, e1, f1, e2, D, B, rfl, S, hB, hT, hM, hE⟩ := id H
  have zz : (0 ≤ MC ∧ 0 ≤ MS) := ⟨Nat.zero_le _, Nat.zero_le _⟩
  have hC := S.2.2.1.1.1
  unfold wpRD_X27_decides wpRD_J2_size
  unfold rdDecides at hp
  refine kOn_of S.2.1.2.1.2.1 ⟨S.k 4 1 (by decide) (by show (1 : Int) < 3; decide), zz, zz, ?_⟩
  rw [S.2.2.2.2.2.1.1.2.1]
  refine CRD_isInB (fun x0 x1 => ⟨0, 0, zz, ?_⟩) (fun z => ⟨zz.1, zz.2, ?_⟩)
  · rw [if_pos ⟨x0, x1⟩] at hp
    rw [S.2.1.2.2.2.2.2.1]
    refine CRD_decided S hB hT (Or.inl rfl) (fun f2 f3 al' iu' rt' B' hB' hT' h3 h2 ho _ => kOn_of S.2.1.2.2.2.2.1 ⟨S.k 6 2 (by decide) (by show (2 : Int) < 5 + nc; omega), zz, CRD_bcard S.1 hB' (by decide) (by omega) ⟨zz.1, zz.2, ?_⟩⟩)
    have e : cntI (B' 2) 6144 = cntI (fun q => rdDec g kk a b c rk dn wn nr q (-1) = x) 6144 := cntI_c (fun q q0 q1 => by
      rw [h2 q q0 q1, rdDec_w (w := -2) (w' := -1) (by decide) (by decide)]
      exact ⟨fun z => z.2, fun z => ⟨by rw [z]; exact x0, z⟩⟩)
    rw [e]
    exact hp _ _ _ _ ⟨A, gi, e0, f0, e1, f1, e2, D, B', rfl, (S.ai2 f2).ai3 f3, hB', hT', hM, hE⟩
  · rw [if_neg z] at hp
    exact hp _ _ _ _ H
theorem CRD_matters {post : Int → (Nat → Nat) → (Nat → Nat) → (Nat → Int → Int) → (Nat → Int → Int) → (Nat → Int) → (Nat → Option Nat) → (Nat → Int) → (Nat → Int) → Prop} {x : Int} (H : rdOK kd an ai al ar mX27_groups mX27_conditions mX27_rules mX27_sets mX27_right mX27_known mX27_asks mX27_done mX27_more mX27_its mX27_allowed mX27_other mX27_order mX28_person mX28_graph mX28_predicate mX28_class0 mX28_version mX75_kind mX75_number mX75_groups mX76_from mX76_to mX77_of mX78_least mX78_of mX80_rank mX80_denies mX80_condition mJ1_modCount mJ2_elementData mJ2_size mJ4_words mJ4_wordsInUse mJ4_sizeIsSticky sa o T g kk a b c nc rk dn wn nr) (hp : ∀ ai' al' iu' rt', rdOK kd an (ai') (al') ar mX27_groups mX27_conditions mX27_rules mX27_sets (rt') mX27_known mX27_asks mX27_done mX27_more mX27_its mX27_allowed mX27_other mX27_order mX28_person mX28_graph mX28_predicate mX28_class0 mX28_version mX75_kind mX75_number mX75_groups mX76_from mX76_to mX77_of mX78_least mX78_of mX80_rank mX80_denies mX80_condition mJ1_modCount mJ2_elementData mJ2_size mJ4_words (iu') mJ4_sizeIsSticky sa o T g kk a b c nc rk dn wn nr → post (rdMatters g kk a b c rk dn wn nr x) kd an ai' al' rt' mJ4_words iu' mJ4_sizeIsSticky) : wpRD_X27_matters MC MS post kd an ai al ar mX27_conditions mX27_rules mX27_sets mX27_right mX27_known mX27_asks mX27_done mX27_more mX27_its mX27_allowed mX27_other mX27_order mX28_person mX28_graph mX28_predicate mX28_class0 mX28_version mX75_kind mX75_number mX75_groups mX76_from mX76_to mX77_of mX78_least mX78_of mX80_rank mX80_denies mX80_condition mJ2_elementData mJ2_size mJ4_words mJ4_wordsInUse mJ4_sizeIsSticky o x := by
  obtain ⟨A, gi, e0, f0, e1, f1, e2, D, B, rfl, S, hB, hT, hM, hE⟩ := id H
  have zz : (0 ≤ MC ∧ 0 ≤ MS) := ⟨Nat.zero_le _, Nat.zero_le _⟩
  have hC := S.2.2.1.1.1
  unfold wpRD_X27_matters wpRD_J2_size
  unfold rdMatters at hp
  refine kOn_of S.2.1.2.1.2.1 ⟨S.k 4 1 (by decide) (by show (1 : Int) < 3; decide), zz, zz, ?_⟩
  rw [S.2.2.2.2.2.1.1.2.1]
  refine CRD_isInB (fun x0 x1 => ⟨0, 0, zz, ?_⟩) (fun z => ⟨zz.1, zz.2, ?_⟩)
  · rw [if_pos ⟨x0, x1⟩] at hp
    rw [S.2.1.2.2.2.2.2.1, S.2.1.2.2.2.2.2.2]
    refine CRD_decided S hB hT (Or.inl rfl) (fun f2 f3 al' iu' rt' B' hB' hT' h3 h2 ho _ => ⟨0, 0, zz, ?_⟩)
    have S2 : rdS0 kd an (va_up (va_up ai (A 2 0) f2) (A 3 0) f3) (al') ar mX27_groups mX27_conditions mX27_rules mX27_sets (rt') mX27_known mX27_asks mX27_done mX27_more mX27_its mX27_allowed mX27_other mX27_order mX28_person mX28_graph mX28_predicate mX28_class0 mX28_version mX75_kind mX75_number mX75_groups mX76_from mX76_to mX77_of mX78_least mX78_of mX80_rank mX80_denies mX80_condition mJ1_modCount mJ2_elementData mJ2_size mJ4_words (iu') mJ4_sizeIsSticky sa A gi g kk a b c nc rk dn wn nr e0 f0 e1 f1 e2 D := (S.ai2 f2).ai3 f3
    refine CRD_decided S2 hB' hT' (Or.inr rfl) (fun f4 f5 al5 iu5 rt5 B5 hB5 hT5 h5 h6 ho5 _ => kOn_some ⟨S.k 6 3 (by decide) (by show (3 : Int) < 5 + nc; omega), 0, 0, zz, ?_⟩)
    refine CRD_bxor S.1 hB5 (by decide) (by omega) (by decide) (by omega) (by decide) (fun al6 iu6 hB6 _ => ⟨zz, CRD_bcard S.1 hB6 (by decide) (by omega) ⟨zz.1, zz.2, ?_⟩⟩)
    have e : cntI (updI B5 3 (fun q => ¬ (B5 3 q ↔ B5 4 q)) 3) 6144 = cntI (fun q => ¬ (rdAl g kk a b c rk dn wn nr q (-1) ↔ rdAl g kk a b c rk dn wn nr q x)) 6144 := cntI_c (fun q q0 q1 => by
      rw [updI_s, h5 q q0 q1, ho5 3 (by decide) (by decide) (by decide), h3 q q0 q1, rdAl_w (w := -2) (w' := -1) (by decide) (by decide)])
    rw [e]
    exact hp _ _ _ _ ⟨A, gi, e0, f0, e1, f1, e2, D, _, rfl, (S2.ai2 f4).ai3 f5, hB6, ⟨hT5.1, fun k k0 k1 q q0 q1 => by rw [updI_n (by omega)]; exact hT5.2 k k0 k1 q q0 q1⟩, hM, hE⟩
  · rw [if_neg z] at hp
    exact hp _ _ _ _ H
theorem CRD_apart {post : Int → (Nat → Nat) → (Nat → Nat) → (Nat → Int → Int) → (Nat → Int → Int) → (Nat → Int) → (Nat → Option Nat) → (Nat → Int) → (Nat → Int) → Prop} {p r : Int} (H : rdOK kd an ai al ar mX27_groups mX27_conditions mX27_rules mX27_sets mX27_right mX27_known mX27_asks mX27_done mX27_more mX27_its mX27_allowed mX27_other mX27_order mX28_person mX28_graph mX28_predicate mX28_class0 mX28_version mX75_kind mX75_number mX75_groups mX76_from mX76_to mX77_of mX78_least mX78_of mX80_rank mX80_denies mX80_condition mJ1_modCount mJ2_elementData mJ2_size mJ4_words mJ4_wordsInUse mJ4_sizeIsSticky sa o T g kk a b c nc rk dn wn nr) (hp : ∀ ai' al' iu' rt', rdOK kd an (ai') (al') ar mX27_groups mX27_conditions mX27_rules mX27_sets (rt') mX27_known mX27_asks mX27_done mX27_more mX27_its mX27_allowed mX27_other mX27_order mX28_person mX28_graph mX28_predicate mX28_class0 mX28_version mX75_kind mX75_number mX75_groups mX76_from mX76_to mX77_of mX78_least mX78_of mX80_rank mX80_denies mX80_condition mJ1_modCount mJ2_elementData mJ2_size mJ4_words (iu') mJ4_sizeIsSticky sa o T g kk a b c nc rk dn wn nr → post (rdApart g kk a b c rk dn wn nr p r) kd an ai' al' rt' mJ4_words iu' mJ4_sizeIsSticky) : wpRD_X27_apart MC MS post kd an ai al ar mX27_conditions mX27_rules mX27_sets mX27_right mX27_known mX27_asks mX27_done mX27_more mX27_its mX27_allowed mX27_order mX28_person mX28_graph mX28_predicate mX28_class0 mX28_version mX75_kind mX75_number mX75_groups mX76_from mX76_to mX77_of mX78_least mX78_of mX80_rank mX80_denies mX80_condition mJ2_elementData mJ2_size mJ4_words mJ4_wordsInUse mJ4_sizeIsSticky o p r := by
  obtain ⟨A, gi, e0, f0, e1, f1, e2, D, B, rfl, S, hB, hT, hM, hE⟩ := id H
  have zz : (0 ≤ MC ∧ 0 ≤ MS) := ⟨Nat.zero_le _, Nat.zero_le _⟩
  have hC := S.2.2.1.1.1
  unfold wpRD_X27_apart
  unfold rdApart at hp
  refine ⟨zz, CRD_isInB (fun p0 p1 => ⟨zz, CRD_isInB (fun r0 r1 => ⟨0, 0, zz, ?_⟩) (fun z => ⟨zz.1, zz.2, ?_⟩)⟩) (fun z => ⟨zz.1, zz.2, ?_⟩)⟩
  · rw [if_pos ⟨⟨p0, p1⟩, r0, r1⟩] at hp
    rw [S.2.1.2.2.2.2.2.1]
    refine CRD_decided S hB hT (Or.inl rfl) (fun f2 f3 al' iu' rt' B' hB' hT' h3 h2 ho _ => ?_)
    have ok := hp _ _ _ _ (⟨A, gi, e0, f0, e1, f1, e2, D, B', rfl, (S.ai2 f2).ai3 f3, hB', hT', hM, hE⟩ : rdOK kd an (va_up (va_up ai (A 2 0) f2) (A 3 0) f3) (al') ar mX27_groups mX27_conditions mX27_rules mX27_sets (rt') mX27_known mX27_asks mX27_done mX27_more mX27_its mX27_allowed mX27_other mX27_order mX28_person mX28_graph mX28_predicate mX28_class0 mX28_version mX75_kind mX75_number mX75_groups mX76_from mX76_to mX77_of mX78_least mX78_of mX80_rank mX80_denies mX80_condition mJ1_modCount mJ2_elementData mJ2_size mJ4_words (iu') mJ4_sizeIsSticky sa (A 0 0) T g kk a b c nc rk dn wn nr)
    have h3' : ∀ q, 0 ≤ q → q < 6144 → (B' 3 q ↔ rdAl g kk a b c rk dn wn nr q (-1)) := fun q q0 q1 => (h3 q q0 q1).trans (rdAl_w (by decide) (by decide))
    refine wloop (fun n k => wRD_X27_apart_34 MC MS _ _ (A 0 0) p r kd an (al') mX27_allowed mJ4_words (iu') ((0 + 0 : Nat)) ((0 + 0 : Nat)) n k) (fun k => (0 ≤ k ∧ k ≤ 768) ∧ ∀ j, 0 ≤ j → j < k → ¬ rdApt g kk a b c rk dn wn nr p r j) (fun k => (768 - k).toNat) ?_ 0 ⟨by omega, fun j x y => by omega⟩
    rintro k ⟨hk, hno⟩ n ih
    rw [wRD_X27_apart_34]
    have same : k < 768 → ¬ rdApt g kk a b c rk dn wn nr p r k → (zR (k + 1) ∧ ∀ x : Int, x = k + 1 → wRD_X27_apart_34 MC MS (fun x3_36 => zR (768 * p + x3_36) ∧ (0 + 0 ≤ MC ∧ 0 + 0 ≤ MS ∧ post (768 * p + x3_36) kd an (va_up (va_up ai (A 2 0) f2) (A 3 0) f3) al' rt' mJ4_words iu' mJ4_sizeIsSticky)) (0 + 0 ≤ MC ∧ 0 + 0 ≤ MS ∧ post (-2) kd an (va_up (va_up ai (A 2 0) f2) (A 3 0) f3) al' rt' mJ4_words iu' mJ4_sizeIsSticky) (A 0 0) p r kd an (al') mX27_allowed mJ4_words (iu') ((0 + 0 : Nat)) ((0 + 0 : Nat)) n x) := by
      intro hlt w
      refine ⟨by omega, fun _ e => ?_⟩
      subst e
      refine ih _ ⟨by omega, fun j x y => ?_⟩ (by omega)
      by_cases hj : j = k
      · subst hj; exact w
      · exact hno j x (by omega)
    have diff : k < 768 → rdApt g kk a b c rk dn wn nr p r k → (zR (768 * p + k) ∧ (0 + 0 ≤ MC ∧ 0 + 0 ≤ MS ∧ post (768 * p + k) kd an (va_up (va_up ai (A 2 0) f2) (A 3 0) f3) al' rt' mJ4_words iu' mJ4_sizeIsSticky)) := by
      intro hlt w
      have e : fstI (rdApt g kk a b c rk dn wn nr p r) 768 = k := fstI_u (by omega) (by omega) (fun _ => w) hno
      rw [e, if_pos hlt] at ok
      exact ⟨by omega, zz.1, zz.2, ok⟩
    refine ⟨fun z => ⟨zz.1, zz.2, ?_⟩, fun z => kOn_of S.2.1.2.2.2.2.2.1 ⟨S.k 6 3 (by decide) (by show (3 : Int) < 5 + nc; omega), by omega, zz, ?_⟩⟩
    · have hk' : k = 768 := by omega
      subst hk'
      have e : fstI (rdApt g kk a b c rk dn wn nr p r) 768 = 768 := fstI_u (by omega) (by omega) (fun w => by omega) hno
      rw [e, if_neg (by decide)] at ok; exact ok
    · unfold rdApt at same diff
      refine CRD_bget S.1 hB' (by decide) (by omega) (by omega) (fun w => ⟨by omega, zz, CRD_bget S.1 hB' (by decide) (by omega) (by omega) (fun w2 => ⟨fun _ => same (by omega) ?_, fun t => absurd rfl t⟩) (fun w2 => ⟨fun t => absurd t (by decide), fun _ => diff (by omega) ?_⟩)⟩) (fun w => ⟨by omega, zz, CRD_bget S.1 hB' (by decide) (by omega) (by omega) (fun w2 => ⟨fun t => absurd t (by decide), fun _ => diff (by omega) ?_⟩) (fun w2 => ⟨fun _ => same (by omega) ?_, fun t => absurd rfl t⟩)⟩)
      all_goals
        rw [h3' _ (by omega) (by omega)] at w w2
        simp [w, w2]
  · rw [if_neg (fun w => z w.2)] at hp
    exact hp _ _ _ _ H
  · rw [if_neg (fun w => z w.1)] at hp
    exact hp _ _ _ _ H
theorem CRD_sees {post : Int → (Nat → Nat) → (Nat → Nat) → (Nat → Int → Int) → (Nat → Int → Int) → (Nat → Int) → (Nat → Option Nat) → (Nat → Int) → (Nat → Int) → Prop} {p v : Int} (H : rdOK kd an ai al ar mX27_groups mX27_conditions mX27_rules mX27_sets mX27_right mX27_known mX27_asks mX27_done mX27_more mX27_its mX27_allowed mX27_other mX27_order mX28_person mX28_graph mX28_predicate mX28_class0 mX28_version mX75_kind mX75_number mX75_groups mX76_from mX76_to mX77_of mX78_least mX78_of mX80_rank mX80_denies mX80_condition mJ1_modCount mJ2_elementData mJ2_size mJ4_words mJ4_wordsInUse mJ4_sizeIsSticky sa o T g kk a b c nc rk dn wn nr) (hp : ∀ ai' al' iu' rt', rdOK kd an (ai') (al') ar mX27_groups mX27_conditions mX27_rules mX27_sets (rt') mX27_known mX27_asks mX27_done mX27_more mX27_its mX27_allowed mX27_other mX27_order mX28_person mX28_graph mX28_predicate mX28_class0 mX28_version mX75_kind mX75_number mX75_groups mX76_from mX76_to mX77_of mX78_least mX78_of mX80_rank mX80_denies mX80_condition mJ1_modCount mJ2_elementData mJ2_size mJ4_words (iu') mJ4_sizeIsSticky sa o T g kk a b c nc rk dn wn nr → post (rdSees g kk a b c rk dn wn nr p v) kd an ai' al' rt' mJ4_words iu' mJ4_sizeIsSticky) : wpRD_X27_sees MC MS post kd an ai al ar mX27_conditions mX27_rules mX27_sets mX27_right mX27_known mX27_asks mX27_done mX27_more mX27_its mX27_allowed mX27_order mX28_person mX28_graph mX28_predicate mX28_class0 mX28_version mX75_kind mX75_number mX75_groups mX76_from mX76_to mX77_of mX78_least mX78_of mX80_rank mX80_denies mX80_condition mJ2_elementData mJ2_size mJ4_words mJ4_wordsInUse mJ4_sizeIsSticky o p v := by
  obtain ⟨A, gi, e0, f0, e1, f1, e2, D, B, rfl, S, hB, hT, hM, hE⟩ := id H
  have zz : (0 ≤ MC ∧ 0 ≤ MS) := ⟨Nat.zero_le _, Nat.zero_le _⟩
  have hC := S.2.2.1.1.1
  unfold wpRD_X27_sees
  unfold rdSees at hp
  refine ⟨zz, CRD_isInB (fun p0 p1 => ⟨zz, CRD_isInB (fun v0 v1 => ⟨0, 0, zz, ?_⟩) (fun z => ⟨zz.1, zz.2, ?_⟩)⟩) (fun z => ⟨zz.1, zz.2, ?_⟩)⟩
  · rw [if_pos ⟨⟨p0, p1⟩, v0, v1⟩] at hp
    rw [S.2.1.2.2.2.2.2.1]
    refine CRD_decided S hB hT (Or.inl rfl) (fun f2 f3 al' iu' rt' B' hB' hT' h3 h2 ho _ => ⟨by omega, fun _ e4 => ?_⟩)
    subst e4
    have ok := hp _ _ _ _ (⟨A, gi, e0, f0, e1, f1, e2, D, B', rfl, (S.ai2 f2).ai3 f3, hB', hT', hM, hE⟩ : rdOK kd an (va_up (va_up ai (A 2 0) f2) (A 3 0) f3) (al') ar mX27_groups mX27_conditions mX27_rules mX27_sets (rt') mX27_known mX27_asks mX27_done mX27_more mX27_its mX27_allowed mX27_other mX27_order mX28_person mX28_graph mX28_predicate mX28_class0 mX28_version mX75_kind mX75_number mX75_groups mX76_from mX76_to mX77_of mX78_least mX78_of mX80_rank mX80_denies mX80_condition mJ1_modCount mJ2_elementData mJ2_size mJ4_words (iu') mJ4_sizeIsSticky sa (A 0 0) T g kk a b c nc rk dn wn nr)
    have h3' : ∀ q, 0 ≤ q → q < 6144 → (B' 3 q ↔ rdAl g kk a b c rk dn wn nr q (-1)) := fun q q0 q1 => (h3 q q0 q1).trans (rdAl_w (by decide) (by decide))
    clear hp h3 h2 ho H
    obtain ⟨P, hP⟩ : ∃ P : Int → Prop, P = fun q => q / 768 = p ∧ q % 8 = v ∧ rdAl g kk a b c rk dn wn nr q (-1) := ⟨_, rfl⟩
    have hPq : ∀ q, P q ↔ (q / 768 = p ∧ q % 8 = v ∧ rdAl g kk a b c rk dn wn nr q (-1)) := fun q => by rw [hP]
    rw [← hP] at ok
    have fin : ∀ x, x = cntI P (768 * (p + 1)).toNat → post x kd an (va_up (va_up ai (A 2 0) f2) (A 3 0) f3) al' rt' mJ4_words iu' mJ4_sizeIsSticky := by
      intro x ex
      have e := cntI_up (p := P) (n := (768 * (p + 1)).toNat) (m := 6144) (by omega) (fun q q0 q1 w => by have := ((hPq q).mp w).1; omega)
      rw [ex, e]; exact ok
    clear ok
    refine wl2 (fun n x k => wRD_X27_sees_41 MC MS _ (A 0 0) p v kd an (al') ar mX27_asks mX27_allowed mX28_version mJ4_words (iu') ((0 + 0 : Nat)) ((0 + 0 : Nat)) n x k) (fun x k => (768 * p ≤ k ∧ k ≤ 768 * (p + 1)) ∧ x = cntI P k.toNat) (fun x k => (768 * (p + 1) - k).toNat) ?_ 0 (768 * p) ⟨by omega, ?_⟩
    · rintro x k ⟨hk, ex⟩ n ih
      rw [wRD_X27_sees_41]
      have cb := cntI_b P k.toNat
      have A8 := S.2.2.2.2.2.2.2 k (by omega)
      have yes : k < 768 * (p + 1) → P k → (zR (x + 1) ∧ ∀ y : Int, y = x + 1 → (zR (k + 1) ∧ ∀ z : Int, z = k + 1 → wRD_X27_sees_41 MC MS (fun x3_57 => 0 + 0 ≤ MC ∧ 0 + 0 ≤ MS ∧ post x3_57 kd an (va_up (va_up ai (A 2 0) f2) (A 3 0) f3) al' rt' mJ4_words iu' mJ4_sizeIsSticky) (A 0 0) p v kd an (al') ar mX27_asks mX27_allowed mX28_version mJ4_words (iu') ((0 + 0 : Nat)) ((0 + 0 : Nat)) n y z)) := by
        intro hlt w
        refine ⟨by omega, fun _ e1 => ⟨by omega, fun _ e2 => ?_⟩⟩
        subst e1 e2
        exact ih _ _ ⟨by omega, by rw [cntI_t (by omega) w, ex]⟩ (by omega)
      have no : k < 768 * (p + 1) → ¬ P k → (zR (x + 0) ∧ ∀ y : Int, y = x + 0 → (zR (k + 1) ∧ ∀ z : Int, z = k + 1 → wRD_X27_sees_41 MC MS (fun x3_57 => 0 + 0 ≤ MC ∧ 0 + 0 ≤ MS ∧ post x3_57 kd an (va_up (va_up ai (A 2 0) f2) (A 3 0) f3) al' rt' mJ4_words iu' mJ4_sizeIsSticky) (A 0 0) p v kd an (al') ar mX27_asks mX27_allowed mX28_version mJ4_words (iu') ((0 + 0 : Nat)) ((0 + 0 : Nat)) n y z)) := by
        intro hlt w
        refine ⟨by omega, fun _ e1 => ⟨by omega, fun _ e2 => ?_⟩⟩
        subst e1 e2
        exact ih _ _ ⟨by omega, by rw [cntI_f (by omega) w, ex]; omega⟩ (by omega)
      refine ⟨by omega, fun z => ⟨zz.1, zz.2, ?_⟩, fun z => kOn_of S.2.1.1.2.2.2 ⟨S.k 5 0 (by decide) z01, ?_, fun r er => ?_⟩⟩
      · have : k = 768 * (p + 1) := by omega
        subst this
        exact fin x ex
      · rw [S.1.an_ 5 0 (by decide) z01 (by decide)]; show 0 ≤ k ∧ k < 6144; omega
      · have A8 := A8 (by omega)
        rw [A8.1] at er
        subst er
        refine kOn_some ⟨A8.2.1, ?_⟩
        rw [A8.2.2.2.2.2.2]
        refine ⟨fun w => kOn_of S.2.1.2.2.2.2.2.1 ⟨S.k 6 3 (by decide) (by show (3 : Int) < 5 + nc; omega), zz, CRD_bget S.1 hB' (by decide) (by omega) (by omega) (fun w2 => ⟨fun t => absurd t (by decide), fun _ => yes (by omega) ((hPq k).mpr ⟨by omega, w, (h3' k (by omega) (by omega)).mp w2⟩)⟩) (fun w2 => ⟨fun _ => no (by omega) (fun t => w2 ((h3' k (by omega) (by omega)).mpr ((hPq k).mp t).2.2)), fun t => absurd rfl t⟩)⟩, fun w => no (by omega) (fun t => w ((hPq k).mp t).2.1)⟩
    · exact (cntI_0 (fun q q0 q1 w => by have := ((hPq q).mp w).1; omega)).symm
  · rw [if_neg (fun w => z w.2)] at hp
    exact hp _ _ _ _ H
  · rw [if_neg (fun w => z w.1)] at hp
    exact hp _ _ _ _ H
end
