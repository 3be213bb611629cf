/-! RightDesk (room RD): a new condition, all of it -/
theorem rN_eq {m n : Int} : ∀ {i : Nat}, i ≠ 6 → i ≠ 7 → rN m i = rN n i
  | 0, _, _ => rfl
  | 1, _, _ => rfl
  | 2, _, _ => rfl
  | 3, _, _ => rfl
  | 4, _, _ => rfl
  | 5, _, _ => rfl
  | 6, h, _ => absurd rfl h
  | 7, _, h => absurd rfl h
  | _ + 8, _, _ => rfl
section
variable {kd : Nat → Nat} {an : Nat → Nat} {ai : Nat → Int → Int} {al : Nat → Int → Int} {ar : Nat → Int → Option Nat} {mX27_groups : Nat → Option Nat} {mX27_conditions : Nat → Option Nat} {mX27_rules : Nat → Option Nat} {mX27_sets : Nat → Option Nat} {mX27_right : Nat → Int} {mX27_known : Nat → Option Nat} {mX27_asks : Nat → Option Nat} {mX27_done : Nat → Option Nat} {mX27_more : Nat → Option Nat} {mX27_its : Nat → Option Nat} {mX27_allowed : Nat → Option Nat} {mX27_other : Nat → Option Nat} {mX27_order : Nat → Option Nat} {mX28_person : Nat → Int} {mX28_graph : Nat → Int} {mX28_predicate : Nat → Int} {mX28_class0 : Nat → Int} {mX28_version : Nat → Int} {mX75_kind : Nat → Int} {mX75_number : Nat → Int} {mX75_groups : Nat → Option Nat} {mX76_from : Nat → Int} {mX76_to : Nat → Int} {mX77_of : Nat → Int} {mX78_least : Nat → Int} {mX78_of : Nat → Option Nat} {mX80_rank : Nat → Int} {mX80_denies : Nat → Int} {mX80_condition : Nat → Int} {mJ1_modCount : Nat → Int} {mJ2_elementData : Nat → Option Nat} {mJ2_size : Nat → Int} {mJ4_words : Nat → Option Nat} {mJ4_wordsInUse : Nat → Int} {mJ4_sizeIsSticky : Nat → Int} {sa : Nat → Nat} {o : Nat} {T : Int} {g kk a b c rk dn wn : Int → Int} {nc nr q : Int} {MC MS : Nat} {A : Nat → Int → Nat} {gi : Nat → Nat × Int} {e0 e1 e2 : Nat} {f0 f1 : Int → Nat} {D : Int → Nat} {B : Int → Int → Prop} {t x y z : Int} {kc ks : Nat}
theorem rdCo_fm {kd1 an1 : Nat → Nat} {ai1 : Nat → Int → Int} {k n : Nat → Int} {gp : Nat → Option Nat} {fr to of ls : Nat → Int} {op : Nat → Option Nat} {G O : Nat} (F : rdFm kd an ai mX75_kind mX75_number mX75_groups mX76_from mX76_to mX77_of mX78_least mX78_of kd1 an1 ai1 k n gp fr to of ls op) (H : rdCo kd an ai mX75_kind mX75_number mX75_groups mX76_from mX76_to mX77_of mX78_least mX78_of G O t x y z o) : rdCo kd1 an1 ai1 k n gp fr to of ls op G O t x y z o := by
  have ko0 : kd o ≠ 0 := by have := H.ek.2; omega
  obtain ⟨⟨h1, h2, h3⟩, h4, h5, h6, h7, h8, h9, h10, h11⟩ := F.1 o ko0
  rcases H with ⟨w, ko, r⟩ | ⟨w, ko, r⟩ | ⟨w, ko, r⟩ | ⟨w, ko, r1, p, r2, kp, r3, lp, r4⟩ | ⟨w, ko⟩
  · exact Or.inl ⟨w, by rw [h1]; exact ko, by rw [h4, h5, h6]; exact r⟩
  · exact Or.inr (Or.inl ⟨w, by rw [h1]; exact ko, by rw [h7, h8]; exact r⟩)
  · exact Or.inr (Or.inr (Or.inl ⟨w, by rw [h1]; exact ko, by rw [h9]; exact r⟩))
  · obtain ⟨⟨p1, p2, p3⟩, _⟩ := F.1 p (by rw [kp]; decide)
    exact Or.inr (Or.inr (Or.inr (Or.inl ⟨w, by rw [h1]; exact ko, by rw [h10]; exact r1, p, by rw [h11]; exact r2, by rw [p1]; exact kp, r3, by rw [p2]; exact lp, by rw [p3]; exact r4⟩)))
  · exact Or.inr (Or.inr (Or.inr (Or.inr ⟨w, by rw [h1]; exact ko⟩)))
theorem rdS0.mk {kd1 an1 : Nat → Nat} {ai1 : Nat → Int → Int} {k n : Nat → Int} {gp : Nat → Option Nat} {fr to of ls : Nat → Int} {op : Nat → Option Nat} (S : rdS0 kd an ai al ar mX27_groups mX27_conditions mX27_rules mX27_sets mX27_right mX27_known mX27_asks mX27_done mX27_more mX27_its mX27_allowed mX27_other mX27_order mX28_person mX28_graph mX28_predicate mX28_class0 mX28_version mX75_kind mX75_number mX75_groups mX76_from mX76_to mX77_of mX78_least mX78_of mX80_rank mX80_denies mX80_condition mJ1_modCount mJ2_elementData mJ2_size mJ4_words mJ4_wordsInUse mJ4_sizeIsSticky sa A gi g kk a b c nc rk dn wn nr e0 f0 e1 f1 e2 D) (F : rdFm kd an ai mX75_kind mX75_number mX75_groups mX76_from mX76_to mX77_of mX78_least mX78_of kd1 an1 ai1 k n gp fr to of ls op) : rdS0 kd1 an1 ai1 al ar mX27_groups mX27_conditions mX27_rules mX27_sets mX27_right mX27_known mX27_asks mX27_done mX27_more mX27_its mX27_allowed mX27_other mX27_order mX28_person mX28_graph mX28_predicate mX28_class0 mX28_version k n gp fr to of ls op mX80_rank mX80_denies mX80_condition mJ1_modCount mJ2_elementData mJ2_size mJ4_words mJ4_wordsInUse mJ4_sizeIsSticky sa A gi g kk a b c nc rk dn wn nr e0 f0 e1 f1 e2 D := by
  obtain ⟨s1, s2, s3, s4, s5, s6, s7, s8⟩ := S
  have le : kLe kd an kd1 an1 := fun a h => ⟨(F.1 a h).1.1, (F.1 a h).1.2.1⟩
  refine ⟨s1.kLe le, s2, s3, fun p p0 p1 => ?_, ⟨s5.1.mono (by decide) le, fun j j0 j1 => rdCo_fm F (s5.2 j j0 j1)⟩, ⟨s6.1.mono (by decide) le, fun r r0 r1 => ?_⟩, s7.mono (by decide) le, fun q q0 q1 => ?_⟩
  · rw [(F.1 _ (by rw [s1.kd_ 1 0 (by decide) z01]; decide)).1.2.2]; exact s4 p p0 p1
  · obtain ⟨h1, h2⟩ := s6.2 r r0 r1
    exact ⟨by rw [(le _ (by rw [h1]; decide)).1]; exact h1, h2⟩
  · obtain ⟨h1, h2, h3⟩ := s8 q q0 q1
    exact ⟨h1, by rw [(le _ (by rw [h2]; decide)).1]; exact h2, h3⟩
theorem CRD_condition {post : Int → (Nat → Nat) → (Nat → Nat) → (Nat → Int → Int) → (Nat → Int → Int) → (Nat → Int → Option Nat) → (Nat → Int) → (Nat → Int) → (Nat → Option Nat) → (Nat → Int) → (Nat → Int) → (Nat → Int) → (Nat → Int) → (Nat → Option Nat) → (Nat → Int) → (Nat → Option Nat) → (Nat → Int) → (Nat → Option Nat) → (Nat → Int) → (Nat → Int) → Prop} (hTb : T < 100000) (hMC : 6 ≤ MC) (hMS : 404 ≤ MS) (H : rdOK kd an ai al ar mX27_groups mX27_conditions mX27_rules mX27_sets mX27_right mX27_known mX27_asks mX27_done mX27_more mX27_its mX27_allowed mX27_other mX27_order mX28_person mX28_graph mX28_predicate mX28_class0 mX28_version mX75_kind mX75_number mX75_groups mX76_from mX76_to mX77_of mX78_least mX78_of mX80_rank mX80_denies mX80_condition mJ1_modCount mJ2_elementData mJ2_size mJ4_words mJ4_wordsInUse mJ4_sizeIsSticky sa o T g kk a b c nc rk dn wn nr)
    (h0 : ¬ rdCok nc t x y z → ∀ kd' an' ai' k n gp fr to of ls op, rdOK (kd') (an') (ai') al ar mX27_groups mX27_conditions mX27_rules mX27_sets mX27_right mX27_known mX27_asks mX27_done mX27_more mX27_its mX27_allowed mX27_other mX27_order mX28_person mX28_graph mX28_predicate mX28_class0 mX28_version k n gp fr to of ls op mX80_rank mX80_denies mX80_condition mJ1_modCount mJ2_elementData mJ2_size mJ4_words mJ4_wordsInUse mJ4_sizeIsSticky sa o T g kk a b c nc rk dn wn nr → post (rdCon nc t x y z) kd' an' ai' al ar k n gp fr to of ls op mJ1_modCount mJ2_elementData mJ2_size mJ4_words mJ4_wordsInUse mJ4_sizeIsSticky)
    (h1 : rdCok nc t x y z → ∀ kd' an' ai' al' ar' k n gp fr to of ls op mo' ed' sz' wd' iu' st', rdOK (kd') (an') (ai') (al') (ar') mX27_groups mX27_conditions mX27_rules mX27_sets mX27_right mX27_known mX27_asks mX27_done mX27_more mX27_its mX27_allowed mX27_other mX27_order mX28_person mX28_graph mX28_predicate mX28_class0 mX28_version k n gp fr to of ls op mX80_rank mX80_denies mX80_condition (mo') (ed') (sz') (wd') (iu') (st') sa o (T + 1) g (updI kk nc t) (updI a nc x) (updI b nc y) (updI c nc z) (nc + 1) rk dn wn nr → post nc kd' an' ai' al' ar' k n gp fr to of ls op mo' ed' sz' wd' iu' st') : wpRD_X27_condition MC MS post kd an ai al ar mX27_groups mX27_conditions mX27_sets mX75_kind mX75_number mX75_groups mX76_from mX76_to mX77_of mX78_least mX78_of mJ1_modCount mJ2_elementData mJ2_size mJ4_words mJ4_wordsInUse mJ4_sizeIsSticky sa o t x y z := by
  obtain ⟨A, gi, e0, f0, e1, f1, e2, D, B, rfl, S, hB, hT, hM, hE⟩ := id H
  have hC := S.2.2.1.1.1
  unfold wpRD_X27_condition
  refine ⟨2, 5, ⟨by omega, by omega⟩, CRD_make S (by omega) (by omega) (fun nf _ => ⟨fun _ => ⟨by omega, by omega, ?_⟩, fun b e => by simp at e⟩) (fun hf o kd1 an1 ai1 k n gp fr to of ls op F C ho kl => ⟨fun e => by simp at e, fun b eb => ?_⟩)⟩
  · have := h0 (fun w => nf w.1) _ _ _ _ _ _ _ _ _ _ _ H
    unfold rdCon at this
    rw [pif_f nf] at this
    exact this
  have eb : o = b := Option.some.inj eb
  subst eb
  have S1 := S.mk F
  obtain ⟨s1, s2, s3, s4, s5, s6, s7, s8⟩ := id S1
  have le1 : kLe kd an kd1 an1 := fun a h => ⟨(F.1 a h).1.1, (F.1 a h).1.2.1⟩
  obtain ⟨-, -, -, -, t5, t6, t7, -⟩ := id S
  have E1 : lsDj kd1 15 (sa 0) e0 e1 ∧ lsDj kd1 15 (sa 0) e0 e2 ∧ lsDj kd1 15 (sa 0) e1 e2 := ⟨hE.1.1.le (by decide) le1 t5.1.own t6.1.own, hE.1.2.1.le (by decide) le1 t5.1.own t7.own, hE.1.2.2.le (by decide) le1 t6.1.own t7.own⟩
  have k40 : kd1 (A 4 0) = 9 := s1.kd_ 4 0 (by decide) (by show (0 : Int) < 3; decide)
  have k42 : kd1 (A 4 2) = 9 := s1.kd_ 4 2 (by decide) (by show (2 : Int) < 3; decide)
  unfold wpRD_J2_size
  refine kOn_of s2.2.1.1 ⟨k40, ⟨by omega, by omega⟩, ?_⟩
  rw [s5.1.2.1]
  refine ⟨fun e60 => ⟨by omega, by omega, ?_⟩, fun e60 => ⟨1, 150, ⟨by omega, by omega⟩, ?_⟩⟩
  · have := h0 (fun w => w.2 e60) _ _ _ _ _ _ _ _ _ _ _ (⟨A, gi, e0, f0, e1, f1, e2, D, B, rfl, S1, hB, hT, hM, E1, hE.2⟩ : rdOK kd1 an1 ai1 al ar mX27_groups mX27_conditions mX27_rules mX27_sets mX27_right mX27_known mX27_asks mX27_done mX27_more mX27_its mX27_allowed mX27_other mX27_order mX28_person mX28_graph mX28_predicate mX28_class0 mX28_version k n gp fr to of ls op mX80_rank mX80_denies mX80_condition mJ1_modCount mJ2_elementData mJ2_size mJ4_words mJ4_wordsInUse mJ4_sizeIsSticky sa (A 0 0) T g kk a b c nc rk dn wn nr)
    unfold rdCon at this
    rw [pif_t hf, if_pos e60] at this
    exact this
  have m0 := hM 0 (by decide) (by decide)
  have m2 := hM 2 (by decide) (by decide)
  have ekc : ∀ i, 0 ≤ i → i < nc → ekRD (kd1 (f0 i)) := fun i i0 i1 => (s5.2 i i0 i1).ek.1
  refine CRD_ladd (n := nc) (f := f0) (e := e0) s5.1 (by omega) (by omega) (by omega) (by omega) ekc C.ek.1 (fun kd2 an2 ar2 ed2 e0' le2 hL2 he2 hfr2 hed2 ke2 hs1 _ => ⟨⟨by omega, by omega⟩, fun u hu _ q1 _ q2 _ q3 => ⟨1, 96, ⟨by omega, by omega⟩, ?_⟩⟩)
  refine CRD_bsnew (by omega) (by omega) (fun w hw _ => ?_)
  subst q1 q2 q3
  -- the kinds on the way
  have uw : u ≠ w := fun e => by rw [← e, va_up_self] at hw; exact absurd hw (by decide)
  have hw2 : kd2 w = 0 := by rw [va_up_ne _ _ uw.symm] at hw; exact hw
  have le3 : kLe kd2 an2 (va_up kd2 u 10) an2 := kLe_new hu (fun _ _ => rfl)
  have le4 : kLe (va_up kd2 u 10) an2 (va_up (va_up kd2 u 10) w 13) (va_up an2 w 96) := kLe_new hw (fun _ h => va_up_ne _ _ h)
  have le14 := kLe_tr le2 (kLe_tr le3 le4)
  have n420 : A 4 2 ≠ A 4 0 := s1.ne (i := 4) (i' := 4) ⟨by decide, by show (2 : Int) < 3; decide⟩ ⟨by decide, by show (0 : Int) < 3; decide⟩ (Or.inr (by decide))
  have n410 : A 4 1 ≠ A 4 0 := s1.ne (i := 4) (i' := 4) ⟨by decide, by show (1 : Int) < 3; decide⟩ ⟨by decide, by show (0 : Int) < 3; decide⟩ (Or.inr (by decide))
  have n412 : A 4 1 ≠ A 4 2 := s1.ne (i := 4) (i' := 4) ⟨by decide, by show (1 : Int) < 3; decide⟩ ⟨by decide, by show (2 : Int) < 3; decide⟩ (Or.inr (by decide))
  have ne2 : 0 < nc → e2 ≠ e0' := s7.ne (by decide) E1.2.1 hs1 he2
  have ne1 : 0 < nr → e1 ≠ e0' := s6.1.ne (by decide) E1.1 hs1 he2
  have L2 := s7.fr (by decide) le14 (fun a h => (hfr2 a h).2.2) ne2 (hed2 _ n420) (va_up_ne mJ2_size (nc + 1) n420)
  have ku4 : va_up (va_up kd2 u 10) w 13 u = 10 := by rw [va_up_ne _ _ uw, va_up_self]
  refine kOn_of s2.2.1.2.2 ⟨by rw [(le14 _ (by rw [k42]; decide)).1]; exact k42, 1, 150, ⟨by omega, by omega⟩, ?_⟩
  refine CRD_ladd (n := nc) (f := fun k => A 6 (5 + k)) (e := e2) L2 (by omega) (by rw [va_up_ne _ _ n420]; omega) (by omega) (by omega) (fun i i0 i1 => ?_) (by rw [ku4]; unfold ekRD; omega) (fun kd5 an5 ar5 ed5 e2' le5 hL5 he5 hfr5 hed5 ke5 hs4 _ => ⟨⟨by omega, by omega⟩, ?_⟩)
  · have h6 : kd1 (A 6 (5 + i)) = 10 := s1.kd_ 6 (5 + i) (by omega) (by show 5 + i < 5 + nc; omega)
    rw [(le14 _ (by rw [h6]; decide)).1, h6]; unfold ekRD; omega
  rw [va_up_ne _ _ n420.symm, va_up_self, va_up_ne _ _ n420, va_up_up, va_up_up]
  refine ⟨by omega, by omega, by omega, ?_⟩
  rw [show nc + 1 - 1 = nc by omega]
  have le15 := kLe_tr le14 le5
  have le05 := kLe_tr le1 le15
  -- labels
  have L6 := Lab.new (s1.kLe le2) hu 6 (an' := an2) (by show (0 : Int) ≤ 5 + nc; omega) (by decide) (fun _ _ => rfl) (fun h => absurd rfl h)
  have L7 := Lab.new L6 hw 7 (an' := va_up an2 w 96) (by show (0 : Int) ≤ 5 + nc; omega) (by decide) (fun _ h => va_up_ne _ _ h) (fun _ => va_up_self _ _ _)
  obtain ⟨A', gi', LAB, hA, h6, h6q, h7, h7w⟩ : ∃ A' gi', Lab rK rL kd5 an5 A' gi' (rN (nc + 1)) ∧ (∀ i j, i ≠ 6 → i ≠ 7 → A' i j = A i j) ∧ (∀ j, j < 5 + nc → A' 6 j = A 6 j) ∧ A' 6 (5 + nc) = u ∧ (∀ j, j < 5 + nc → A' 7 j = A 7 j) ∧ A' 7 (5 + nc) = w := by
    refine ⟨_, _, (L7.mono (fun i => ?_)).kLe le5, fun i j c1 c2 => ?_, fun j hj => ?_, ?_, fun j hj => ?_, ?_⟩
    · unfold nUp
      by_cases c1 : i = 7
      · subst c1; rw [if_pos rfl, if_neg (by decide)]; show 5 + (nc + 1) ≤ 5 + nc + 1; omega
      · rw [if_neg c1]
        by_cases c2 : i = 6
        · subst c2; rw [if_pos rfl]; show 5 + (nc + 1) ≤ 5 + nc + 1; omega
        · rw [if_neg c2, rN_eq c2 c1 (n := nc)]; exact Int.le_refl _
    · rw [aUp_i c2, aUp_i c1]
    · rw [aUp_i (by decide), aUp_j (by show j ≠ 5 + nc; omega)]
    · rw [aUp_i (by decide)]; exact aUp_s
    · rw [aUp_j (by show j ≠ 5 + nc; omega), aUp_i (by decide)]
    · exact aUp_s
  have E0 : ∀ i j, i ≠ 6 → i ≠ 7 → A' i j = A i j := hA
  have e00 : A' 0 0 = A 0 0 := hA 0 0 (by decide) (by decide)
  have eA : A' 1 0 = A 1 0 ∧ A' 2 0 = A 2 0 ∧ A' 3 0 = A 3 0 ∧ A' 5 0 = A 5 0 ∧ A' 4 0 = A 4 0 ∧ A' 4 1 = A 4 1 ∧ A' 4 2 = A 4 2 := ⟨hA 1 0 (by decide) (by decide), hA 2 0 (by decide) (by decide), hA 3 0 (by decide) (by decide), hA 5 0 (by decide) (by decide), hA 4 0 (by decide) (by decide), hA 4 1 (by decide) (by decide), hA 4 2 (by decide) (by decide)⟩
  have eB : A' 6 0 = A 6 0 ∧ A' 6 1 = A 6 1 ∧ A' 6 2 = A 6 2 ∧ A' 6 3 = A 6 3 ∧ A' 6 4 = A 6 4 := ⟨h6 0 (by omega), h6 1 (by omega), h6 2 (by omega), h6 3 (by omega), h6 4 (by omega)⟩
  obtain ⟨eA1, eA2, eA3, eA5, eA40, eA41, eA42⟩ := eA
  obtain ⟨eB0, eB1, eB2, eB3, eB4⟩ := eB
  have own0 : kd1 e0 = 15 ∨ e0 = sa 0 := s5.1.own
  have own1 := s6.1.own
  have own2 := s7.own
  -- rows of the lists
  have le25 : kLe kd2 an2 kd5 an5 := kLe_tr (kLe_tr le3 le4) le5
  have D2 : lsDj kd2 15 (sa 0) e0' e1 ∧ lsDj kd2 15 (sa 0) e0' e2 ∧ lsDj kd2 15 (sa 0) e1 e2 := ⟨E1.1.up (by decide) le2 own1 he2, E1.2.1.up (by decide) le2 own2 he2, E1.2.2.le (by decide) le2 own1 own2⟩
  have lm1 := s6.1.fr (by decide) le2 (fun a h => (hfr2 a h).2.2) ne1 (hed2 _ n410) (va_up_ne mJ2_size (nc + 1) n410)
  have lm2 := s7.fr (by decide) le2 (fun a h => (hfr2 a h).2.2) ne2 (hed2 _ n420) (va_up_ne mJ2_size (nc + 1) n420)
  have le24 := kLe_tr le3 le4
  have D4 : lsDj (va_up (va_up kd2 u 10) w 13) 15 (sa 0) e0' e1 ∧ lsDj (va_up (va_up kd2 u 10) w 13) 15 (sa 0) e0' e2 ∧ lsDj (va_up (va_up kd2 u 10) w 13) 15 (sa 0) e1 e2 := ⟨D2.1.le (by decide) le24 (Or.inl ke2) lm1.own, D2.2.1.le (by decide) le24 (Or.inl ke2) lm2.own, D2.2.2.le (by decide) le24 lm1.own lm2.own⟩
  have l04 := hL2.mono (by decide) le24
  have l14 := lm1.mono (by decide) le24
  have ne0b : e0' ≠ e2' := by
    have := l04.ne (by decide) D4.2.1.symm hs4 he5
    exact this (by omega)
  have ne1b : 0 < nr → e1 ≠ e2' := l14.ne (by decide) D4.2.2.symm hs4 he5
  have D5 : lsDj kd5 15 (sa 0) e0' e1 ∧ lsDj kd5 15 (sa 0) e0' e2' ∧ lsDj kd5 15 (sa 0) e1 e2' := ⟨D4.1.le (by decide) le5 l04.own l14.own, (D4.2.1.symm.up (by decide) le5 l04.own he5).symm, (D4.2.2.symm.up (by decide) le5 l14.own he5).symm⟩
  have n5 : A 5 0 ≠ e0' ∧ A 5 0 ≠ e2' := by
    have k5 : kd1 (A 5 0) = 14 := s1.kd_ 5 0 (by decide) z01
    have k5' : va_up (va_up kd2 u 10) w 13 (A 5 0) = 14 := by rw [(le14 _ (by rw [k5]; decide)).1]; exact k5
    refine ⟨fun e => ?_, fun e => ?_⟩
    · rw [(le2 _ (by rw [← e, k5]; decide)).1, ← e, k5] at ke2; exact absurd ke2 (by decide)
    · rw [(le5 _ (by rw [← e, k5']; decide)).1, ← e, k5'] at ke5; exact absurd ke5 (by decide)
  -- bit sets
  have nu : ∀ j, 0 ≤ j → j < 5 + nc → A 6 j ≠ u ∧ A 7 j ≠ w := fun j j0 j1 => by
    have k6 : kd2 (A 6 j) = 10 := (s1.kLe le2).kd_ 6 j j0 j1
    have k7 : kd2 (A 7 j) = 13 := (s1.kLe le2).kd_ 7 j j0 j1
    exact ⟨fun e => by rw [e, hu] at k6; exact absurd k6 (by decide), fun e => by rw [e, hw2] at k7; exact absurd k7 (by decide)⟩
  refine h1 ⟨hf, e60⟩ _ _ _ _ _ _ _ _ _ _ _ _ _ _ _ _ _ _ _ ⟨A', gi', e0', updI f0 nc o, e1, f1, e2', D, updI B (5 + nc) (fun _ => False), e00, ⟨LAB, ?_, ⟨rdFit_C s3.1 e60 hf, s3.2.1, fun r r0 r1 => ?_⟩, fun p p0 p1 => ?_, ⟨?_, fun j j0 j1 => ?_⟩, ⟨?_, fun r r0 r1 => ?_⟩, ?_, fun q q0 q1 => ?_⟩, fun i i0 i1 => ?_, ⟨?_, fun j j0 j1 q q0 q1 => ?_⟩, fun j j0 j1 => ?_, D5, fun _ w => ?_, fun _ => ne0b, fun w _ => ne1b w⟩
  · unfold rdF
    rw [e00, eA1, eA2, eA3, eA5, eA40, eA41, eA42, eB0, eB1, eB2, eB3, eB4]
    exact s2
  · have := s3.2.2 r r0 r1
    exact ⟨this.1, this.2.1, by omega⟩
  · rw [eA1]; exact s4 p p0 p1
  · rw [eA40]
    exact l04.fr (by decide) le5 (fun a h => (hfr5 a h).2.2) (fun _ => ne0b) (hed5 _ n420.symm) (va_up_ne _ _ n420.symm)
  · rw [eA1, eA2]
    have le5' : rdFm kd1 an1 ai1 k n gp fr to of ls op kd5 an5 ai1 k n gp fr to of ls op ∨ True := Or.inr trivial
    have mv : ∀ {o t x y z}, rdCo kd1 an1 ai1 k n gp fr to of ls op (A 1 0) (A 2 0) t x y z o → rdCo kd5 an5 ai1 k n gp fr to of ls op (A 1 0) (A 2 0) t x y z o := by
      intro o t x y z hc
      have kq : ∀ a, kd1 a ≠ 0 → kd5 a = kd1 a ∧ an5 a = an1 a := le15
      rcases hc with ⟨w, ko, r⟩ | ⟨w, ko, r⟩ | ⟨w, ko, r⟩ | ⟨w, ko, r1, p, r2, kp, r3, lp, r4⟩ | ⟨w, ko⟩
      · exact Or.inl ⟨w, by rw [(kq _ (by rw [ko]; decide)).1]; exact ko, r⟩
      · exact Or.inr (Or.inl ⟨w, by rw [(kq _ (by rw [ko]; decide)).1]; exact ko, r⟩)
      · exact Or.inr (Or.inr (Or.inl ⟨w, by rw [(kq _ (by rw [ko]; decide)).1]; exact ko, r⟩))
      · exact Or.inr (Or.inr (Or.inr (Or.inl ⟨w, by rw [(kq _ (by rw [ko]; decide)).1]; exact ko, r1, p, r2, by rw [(kq _ (by rw [kp]; decide)).1]; exact kp, r3, by rw [(kq _ (by rw [kp]; decide)).2]; exact lp, r4⟩)))
      · exact Or.inr (Or.inr (Or.inr (Or.inr ⟨w, by rw [(kq _ (by rw [ko]; decide)).1]; exact ko⟩)))
    by_cases e : j = nc
    · rw [e, updI_s, updI_s, updI_s, updI_s, updI_s]; exact mv C
    · rw [updI_n e, updI_n e, updI_n e, updI_n e, updI_n e]; exact mv (s5.2 j j0 (by omega))
  · rw [eA41]
    exact l14.fr (by decide) le5 (fun a h => (hfr5 a h).2.2) ne1b (hed5 _ n412) (va_up_ne _ _ n412)
  · obtain ⟨o1, o2⟩ := s6.2 r r0 r1
    exact ⟨by rw [(le15 _ (by rw [o1]; decide)).1]; exact o1, o2⟩
  · rw [eA42]
    have ef : updI (fun j => A 6 (5 + j)) nc u = fun j => if j = nc then u else A 6 (5 + j) := rfl
    obtain ⟨l1, l2, l3, l4, l5⟩ := hL5
    refine ⟨l1, l2, l3, l4, fun j j0 j1 => ?_⟩
    rw [l5 j j0 j1]
    by_cases e : j = nc
    · rw [e, updI_s]; show some u = some (A' 6 (5 + nc)); rw [h6q]
    · rw [updI_n e]; show some (A 6 (5 + j)) = some (A' 6 (5 + j)); rw [h6 _ (by omega)]
  · obtain ⟨d1, d2, d3⟩ := s8 q q0 q1
    rw [eA5]
    refine ⟨?_, by rw [(le15 _ (by rw [d2]; decide)).1]; exact d2, d3⟩
    rw [(hfr5 _ n5.2).2.2, (hfr2 _ n5.1).2.2]; exact d1
  · by_cases e : i = 5 + nc
    · rw [e, h6q, h7w, updI_s, va_up_self, va_up_self, va_up_self]
      exact ⟨rfl, bsOK_0 (by decide) (fun _ _ _ => rfl)⟩
    · have i1' : i < 5 + nc := by omega
      rw [h6 i i1', h7 i i1', updI_n e, va_up_ne _ _ (nu i i0 i1').1, va_up_ne _ _ (nu i i0 i1').1, va_up_ne _ _ (nu i i0 i1').2]
      exact hB i i0 i1'
  · rw [e00]; have := hT.1; omega
  · rw [e00] at j1
    have := hT.1
    rw [updI_n (by omega)]
    have hh := hT.2 j j0 j1 q q0 q1
    unfold rdHq at hh ⊢
    rw [rdH_up j0 (by omega)]; exact hh
  · have hj : j = 0 ∨ j = 1 ∨ j = 2 := by omega
    have mj := hM j j0 j1
    rcases hj with rfl | rfl | rfl
    · rw [eA40, va_up_ne _ _ n420.symm, va_up_self]; omega
    · rw [eA41, va_up_ne _ _ n412, va_up_ne _ _ n410]; omega
    · rw [eA42, va_up_self]; omega
  · exact (ne1 w).symm
end
