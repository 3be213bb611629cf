/-! RightDesk (room RD): what comes and goes -/
theorem rdV_c {g kk a b c kk' a' b' c' : Int → Int} {q : Int} : ∀ n : Nat, (∀ j : Int, 0 ≤ j → j < n → kk j = kk' j ∧ a j = a' j ∧ b j = b' j ∧ c j = c' j) → rdV g kk a b c q n = rdV g kk' a' b' c' q n
  | 0, _ => rfl
  | n + 1, h => by
    have ih := rdV_c (g := g) (q := q) n (fun j x y => h j x (by omega))
    obtain ⟨h1, h2, h3, h4⟩ := h n (by omega) (by omega)
    unfold rdV rdP
    rw [ih, h1, h2, h3, h4]
theorem rdH_up {g kk a b c : Int → Int} {q k n t x y z : Int} (h0 : 0 ≤ k) (h : k < n) : rdH g (updI kk n t) (updI a n x) (updI b n y) (updI c n z) q k = rdH g kk a b c q k := by
  unfold rdH
  rw [rdV_c (k.toNat + 1) (fun j x y => ⟨updI_n (by omega), updI_n (by omega), updI_n (by omega), updI_n (by omega)⟩)]
theorem rdFit_C {kk a b c : Int → Int} {nc t x y z : Int} (H : rdC kk a b c nc) (hn : nc ≠ 60) (hf : rdFit nc t x y z) : rdC (updI kk nc t) (updI a nc x) (updI b nc y) (updI c nc z) (nc + 1) := by
  obtain ⟨h1, h2⟩ := H
  refine ⟨by omega, fun k k0 k1 => ?_⟩
  by_cases e : k = nc
  · subst e
    unfold rdG
    rw [updI_s, updI_s, updI_s, updI_s]
    unfold rdFit at hf
    by_cases c0 : t = 0 ∨ t = 1
    · rw [if_pos c0] at hf; omega
    · rw [if_neg c0] at hf
      by_cases c1 : t = 2 ∨ t = 4
      · rw [if_pos c1] at hf; omega
      · rw [if_neg c1] at hf
        by_cases c2 : t = 3
        · rw [if_pos c2] at hf; omega
        · rw [if_neg c2] at hf
          by_cases c3 : t = 5
          · rw [if_pos c3] at hf; omega
          · rw [if_neg c3] at hf
            by_cases c4 : t = 6
            · rw [if_pos c4] at hf; omega
            · rw [if_neg c4] at hf
              by_cases c5 : t = 7 ∨ t = 8
              · rw [if_pos c5] at hf; omega
              · rw [if_neg c5] at hf
                by_cases c6 : t = 9
                · omega
                · rw [if_neg c6] at hf
                  by_cases c7 : t = 10
                  · rw [if_pos c7] at hf; omega
                  · rw [if_neg c7] at hf; exact hf.elim
  · have := h2 k k0 (by omega)
    unfold rdG at this ⊢
    rw [updI_n e, updI_n e, updI_n e, updI_n e]
    exact this
section
variable {kd : Nat → Nat} {an : Nat → Nat} {ai : Nat → Int → Int} {al : Nat → Int → Int} {ar : Nat → Int → Option Nat} {mX27_groups : Nat → Option Nat} {mX27_conditions : Nat → Option Nat} {mX27_rules : Nat → Option Nat} {mX27_sets : Nat → Option Nat} {mX27_right : Nat → Int} {mX27_known : Nat → Option Nat} {mX27_asks : Nat → Option Nat} {mX27_done : Nat → Option Nat} {mX27_more : Nat → Option Nat} {mX27_its : Nat → Option Nat} {mX27_allowed : Nat → Option Nat} {mX27_other : Nat → Option Nat} {mX27_order : Nat → Option Nat} {mX28_person : Nat → Int} {mX28_graph : Nat → Int} {mX28_predicate : Nat → Int} {mX28_class0 : Nat → Int} {mX28_version : Nat → Int} {mX75_kind : Nat → Int} {mX75_number : Nat → Int} {mX75_groups : Nat → Option Nat} {mX76_from : Nat → Int} {mX76_to : Nat → Int} {mX77_of : Nat → Int} {mX78_least : Nat → Int} {mX78_of : Nat → Option Nat} {mX80_rank : Nat → Int} {mX80_denies : Nat → Int} {mX80_condition : Nat → Int} {mJ1_modCount : Nat → Int} {mJ2_elementData : Nat → Option Nat} {mJ2_size : Nat → Int} {mJ4_words : Nat → Option Nat} {mJ4_wordsInUse : Nat → Int} {mJ4_sizeIsSticky : Nat → Int} {sa : Nat → Nat} {o : Nat} {T : Int} {g kk a b c rk dn wn : Int → Int} {nc nr q : Int} {MC MS : Nat} {A : Nat → Int → Nat} {gi : Nat → Nat × Int} {e0 e1 e2 : Nat} {f0 f1 : Int → Nat} {D : Int → Nat} {B : Int → Int → Prop} {t x y z : Int} {kc ks : Nat}
theorem CRD_member {post : Int → (Nat → Int → Int) → (Nat → Int) → Prop} {p r v : Int} (H : rdOK kd an ai al ar mX27_groups mX27_conditions mX27_rules mX27_sets mX27_right mX27_known mX27_asks mX27_done mX27_more mX27_its mX27_allowed mX27_other mX27_order mX28_person mX28_graph mX28_predicate mX28_class0 mX28_version mX75_kind mX75_number mX75_groups mX76_from mX76_to mX77_of mX78_least mX78_of mX80_rank mX80_denies mX80_condition mJ1_modCount mJ2_elementData mJ2_size mJ4_words mJ4_wordsInUse mJ4_sizeIsSticky sa o T g kk a b c nc rk dn wn nr) (hp : ∀ ai' rt', rdOK kd an (ai') al ar mX27_groups mX27_conditions mX27_rules mX27_sets (rt') mX27_known mX27_asks mX27_done mX27_more mX27_its mX27_allowed mX27_other mX27_order mX28_person mX28_graph mX28_predicate mX28_class0 mX28_version mX75_kind mX75_number mX75_groups mX76_from mX76_to mX77_of mX78_least mX78_of mX80_rank mX80_denies mX80_condition mJ1_modCount mJ2_elementData mJ2_size mJ4_words mJ4_wordsInUse mJ4_sizeIsSticky sa o T (rdMemG g p r v) kk a b c nc rk dn wn nr → post (rdMem g p r v) ai' rt') : wpRD_X27_member post kd an ai mX27_groups mX27_right o p r v := by
  obtain ⟨A, gi, e0, f0, e1, f1, e2, D, B, rfl, S, hB, hT, hM, hE⟩ := id H
  obtain ⟨s1, s2, s3, s4, s5, s6⟩ := id S
  have k1 : kd (A 1 0) = 11 := s1.kd_ 1 0 (by decide) z01
  have l1 : an (A 1 0) = 8 := s1.an_ 1 0 (by decide) z01 (by decide)
  have hnc := s3.1.1
  unfold wpRD_X27_member
  have no : rdMem g p r v ≠ 1 → post (rdMem g p r v) ai mX27_right := by
    intro z
    unfold rdMemG at hp
    rw [if_neg z] at hp
    exact hp _ _ H
  have yes : rdMem g p r v = 1 → (0 ≤ p ∧ p < 8) → post 1 (va_up ai (A 1 0) (updI (ai (A 1 0)) p (zxor (ai (A 1 0) p) (2 ^ r.toNat)))) (va_up mX27_right (A 0 0) 0) := by
    intro z hpp
    unfold rdMemG at hp
    rw [if_pos z, z] at hp
    refine hp _ _ ⟨A, gi, e0, f0, e1, f1, e2, D, B, rfl, ⟨s1, s2, s3, fun u x y => ?_, ⟨s5.1, fun k x y => ?_⟩, s6⟩, hB, ⟨by rw [va_up_self]; omega, fun k x y => by rw [va_up_self] at y; omega⟩, hM, hE⟩
    · rw [va_up_self]
      by_cases e : u = p
      · rw [e, updI_s, updI_s, s4 p hpp.1 hpp.2]
      · rw [updI_n e, updI_n e]; exact s4 u x y
    · rcases s5.2 k x y with h | h | h | ⟨w, ko, r1, p', r2, kp, r3, lp, r4, r5, r6⟩ | h
      · exact Or.inl h
      · exact Or.inr (Or.inl h)
      · exact Or.inr (Or.inr (Or.inl h))
      · have e : ∀ f, va_up ai (A 1 0) f p' = ai p' := fun f => va_up_ne _ _ r3.1
        exact Or.inr (Or.inr (Or.inr (Or.inl ⟨w, ko, r1, p', r2, kp, r3, lp, by rw [e]; exact r4, by rw [e]; exact r5, by rw [e]; exact r6⟩)))
      · exact Or.inr (Or.inr (Or.inr (Or.inr h)))
  unfold rdMem at no yes
  refine CRD_isInB (fun a1 a2 => CRD_isInB (fun b1 b2 => kOn_of s2.1.1 ⟨k1, by rw [l1]; omega, by omega, ?_⟩) (fun z => ?_)) (fun z => ?_)
  · rw [if_pos ⟨⟨a1, a2⟩, b1, b2⟩] at no yes
    rw [s4 p a1 a2]
    refine ⟨fun e => ?_, fun e => ?_⟩
    · rw [if_pos e] at no yes
      unfold wRD_X27_member_39
      refine ⟨fun z => ?_, fun z => kOn_of s2.1.1 ⟨k1, by rw [l1]; omega, by omega, fun _ q1 _ q2 _ q3 => ?_⟩⟩
      · rw [if_pos z] at no; exact no (by decide)
      · subst q1 q2 q3; rw [if_neg z] at yes; exact yes rfl ⟨a1, a2⟩
    · rw [if_neg e] at no yes
      unfold wRD_X27_member_39
      refine ⟨fun z => ?_, fun z => kOn_of s2.1.1 ⟨k1, by rw [l1]; omega, by omega, fun _ q1 _ q2 _ q3 => ?_⟩⟩
      · rw [if_pos z] at no; exact no (by decide)
      · subst q1 q2 q3; rw [if_neg z] at yes; exact yes rfl ⟨a1, a2⟩
  · rw [if_neg (fun w => z w.2)] at no; exact no (by decide)
  · rw [if_neg (fun w => z w.1)] at no; exact no (by decide)
theorem CRD_drop {post : Int → (Nat → Int → Option Nat) → (Nat → Int) → (Nat → Int) → Prop} {i : Int} (hTb : T < 100000) (H : rdOK kd an ai al ar mX27_groups mX27_conditions mX27_rules mX27_sets mX27_right mX27_known mX27_asks mX27_done mX27_more mX27_its mX27_allowed mX27_other mX27_order mX28_person mX28_graph mX28_predicate mX28_class0 mX28_version mX75_kind mX75_number mX75_groups mX76_from mX76_to mX77_of mX78_least mX78_of mX80_rank mX80_denies mX80_condition mJ1_modCount mJ2_elementData mJ2_size mJ4_words mJ4_wordsInUse mJ4_sizeIsSticky sa o T g kk a b c nc rk dn wn nr) (h1 : (0 ≤ i ∧ i < nr) → ∀ ar' mo' sz', rdOK kd an ai al (ar') mX27_groups mX27_conditions mX27_rules mX27_sets mX27_right mX27_known mX27_asks mX27_done mX27_more mX27_its mX27_allowed mX27_other mX27_order mX28_person mX28_graph mX28_predicate mX28_class0 mX28_version mX75_kind mX75_number mX75_groups mX76_from mX76_to mX77_of mX78_least mX78_of mX80_rank mX80_denies mX80_condition (mo') mJ2_elementData (sz') mJ4_words mJ4_wordsInUse mJ4_sizeIsSticky sa o (T + 1) g kk a b c nc (rdSh rk i (nr - 1)) (rdSh dn i (nr - 1)) (rdSh wn i (nr - 1)) (nr - 1) → post (nr - 1) ar' mo' sz') (h0 : ¬ (0 ≤ i ∧ i < nr) → post (-1) ar mJ1_modCount mJ2_size) : wpRD_X27_drop post kd an ar mX27_rules mJ1_modCount mJ2_elementData mJ2_size o i := by
  obtain ⟨A, gi, e0, f0, e1, f1, e2, D, B, rfl, S, hB, hT, hM, hE⟩ := id H
  obtain ⟨s1, s2, s3, s4, s5, s6, s7, s8⟩ := id S
  have k41 : kd (A 4 1) = 9 := s1.kd_ 4 1 (by decide) (by show (1 : Int) < 3; decide)
  have hr := s3.2.1
  unfold wpRD_X27_drop wpRD_J2_size
  refine kOn_of s2.2.1.2.1 ⟨k41, ?_⟩
  rw [s6.1.2.1]
  refine CRD_isInB (fun x0 x1 => ?_) h0
  have mb := hM 1 (by decide) (by decide)
  refine CRD_lrem (f := f1) (n := nr) (e := e1) s6.1 (by omega) (by omega) (fun r r0 r1 => ?_) x0 x1 (fun G hG => ?_)
  · have := (s6.2 r r0 r1).1
    unfold ekRD; omega
  · rw [va_up_self]
    obtain ⟨ke, _, _⟩ := s6.1.at x0 x1
    have ns0 : kd (A 5 0) = 14 := s1.kd_ 5 0 (by decide) z01
    have n5 : A 5 0 ≠ e1 := fun e => by rw [e, ke] at ns0; exact absurd ns0 (by decide)
    have nl : ∀ j, 0 ≤ j → j < 3 → j ≠ 1 → A 4 j ≠ A 4 1 := fun j a b c => s1.ne (i := 4) (i' := 4) ⟨a, b⟩ ⟨by decide, by show (1 : Int) < 3; decide⟩ (Or.inr c)
    have fr : ∀ (l e : Nat) (n : Int) (f : Int → Nat), lsOK kd an ar mJ2_elementData mJ2_size 15 (sa 0) l e n f → (0 < n → e ≠ e1) → l ≠ A 4 1 → lsOK kd an (va_up ar e1 G) mJ2_elementData (va_up mJ2_size (A 4 1) (nr - 1)) 15 (sa 0) l e n f := fun l e n f hl hne hl1 => hl.fr (by decide) (fun _ _ => ⟨rfl, rfl⟩) (fun a ha => va_up_ne _ _ ha) hne rfl (va_up_ne _ _ hl1)
    obtain ⟨g1, g2, g3, g4, g5⟩ := s6.1
    have ir : ∀ r, 0 ≤ r → r < nr - 1 → 0 ≤ (if r < i then r else r + 1) ∧ (if r < i then r else r + 1) < nr := fun r r0 r1 => by split <;> omega
    have sh : ∀ f : Int → Int, ∀ r, 0 ≤ r → r < nr - 1 → rdSh f i (nr - 1) r = f (if r < i then r else r + 1) := fun f r r0 r1 => by
      unfold rdSh
      by_cases c1 : r < i
      · rw [if_neg (by omega), if_pos c1]
      · rw [if_pos (by omega), if_neg c1]
    refine h1 ⟨x0, x1⟩ _ _ _ ⟨A, gi, e0, f0, e1, fun r => f1 (if r < i then r else r + 1), e2, D, B, rfl, ⟨s1, s2, ⟨s3.1, by omega, fun r r0 r1 => ?_⟩, s4, ⟨fr _ _ _ _ s5.1 (fun w => hE.2.1 w (by omega)) (nl 0 (by decide) (by decide) (by decide)), s5.2⟩, ⟨⟨g1, va_up_self _ _ _, by omega, ?_, fun r r0 r1 => by rw [va_up_self]; exact hG r r0 r1⟩, fun r r0 r1 => ?_⟩, fr _ _ _ _ s7 (fun w => (hE.2.2.2 (by omega) w).symm) (nl 2 (by decide) (by decide) (by decide)), fun q q0 q1 => ?_⟩, hB, hT, fun j j0 j1 => ?_, hE.1, fun w w2 => hE.2.1 w (by omega), hE.2.2.1, fun w w2 => hE.2.2.2 (by omega) w2⟩
    · rw [sh _ r r0 r1, sh _ r r0 r1, sh _ r r0 r1]
      exact s3.2.2 _ (ir r r0 r1).1 (ir r r0 r1).2
    · rcases g4 with g4 | g4
      · exact Or.inl ⟨g4.1, g4.2.1, by omega⟩
      · omega
    · rw [sh _ r r0 r1, sh _ r r0 r1, sh _ r r0 r1]
      exact s6.2 _ (ir r r0 r1).1 (ir r r0 r1).2
    · rw [va_up_ne _ _ n5]; exact s8 q q0 q1
    · by_cases e : j = 1
      · subst e; rw [va_up_self]; omega
      · rw [va_up_ne _ _ (nl j j0 j1 e)]; have := hM j j0 j1; omega
theorem CRD_rule {post : Int → (Nat → Nat) → (Nat → Nat) → (Nat → Int → Option Nat) → (Nat → Int) → (Nat → Int) → (Nat → Int) → (Nat → Int) → (Nat → Option Nat) → (Nat → Int) → Prop} {r v y : Int} (hTb : T < 100000) (hMC : 2 ≤ MC) (hMS : 50 ≤ MS) (hv : v = 0 ∨ v = 1) (H : rdOK kd an ai al ar mX27_groups mX27_conditions mX27_rules mX27_sets mX27_right mX27_known mX27_asks mX27_done mX27_more mX27_its mX27_allowed mX27_other mX27_order mX28_person mX28_graph mX28_predicate mX28_class0 mX28_version mX75_kind mX75_number mX75_groups mX76_from mX76_to mX77_of mX78_least mX78_of mX80_rank mX80_denies mX80_condition mJ1_modCount mJ2_elementData mJ2_size mJ4_words mJ4_wordsInUse mJ4_sizeIsSticky sa o T g kk a b c nc rk dn wn nr) (h1 : rdRok nc nr r y → ∀ kd' an' ar' m1 m2 m3 mo' ed' sz', rdOK (kd') (an') ai al (ar') mX27_groups mX27_conditions mX27_rules mX27_sets mX27_right mX27_known mX27_asks mX27_done mX27_more mX27_its mX27_allowed mX27_other mX27_order mX28_person mX28_graph mX28_predicate mX28_class0 mX28_version mX75_kind mX75_number mX75_groups mX76_from mX76_to mX77_of mX78_least mX78_of m1 m2 m3 (mo') (ed') (sz') mJ4_words mJ4_wordsInUse mJ4_sizeIsSticky sa o (T + 1) g kk a b c nc (updI rk nr r) (updI dn nr v) (updI wn nr y) (nr + 1) → post nr kd' an' ar' m1 m2 m3 mo' ed' sz') (h0 : ¬ rdRok nc nr r y → post (rdRul nc nr r y) kd an ar mX80_rank mX80_denies mX80_condition mJ1_modCount mJ2_elementData mJ2_size) : wpRD_X27_rule MC MS post kd an ar mX27_conditions mX27_rules mX80_rank mX80_denies mX80_condition mJ1_modCount mJ2_elementData mJ2_size sa o r v y := by
  obtain ⟨A, gi, e0, f0, e1, f1, e2, D, B, rfl, S, hB, hT, hM, hE⟩ := id H
  obtain ⟨s1, s2, s3, s4, s5, s6, s7, s8⟩ := id S
  have k41 : kd (A 4 1) = 9 := s1.kd_ 4 1 (by decide) (by show (1 : Int) < 3; decide)
  have hr := s3.2.1
  have zz : (0 ≤ MC ∧ 0 ≤ MS) := ⟨Nat.zero_le _, Nat.zero_le _⟩
  unfold wpRD_X27_rule wpRD_J2_size
  unfold rdRul at h0
  unfold rdRok at h0 h1
  refine ⟨zz, CRD_isInB (fun a1 a2 => ⟨zz, CRD_isCond S (fun b1 b2 => kOn_of s2.2.1.2.1 ⟨k41, zz, ?_⟩) (fun z => ⟨zz.1, zz.2, ?_⟩)⟩) (fun z => ⟨zz.1, zz.2, ?_⟩)⟩
  rotate_left
  · rw [if_neg (fun w => z w.2)] at h0; exact h0 (fun w => z w.1.2)
  · rw [if_neg (fun w => z w.1)] at h0; exact h0 (fun w => z w.1.1)
  rw [if_pos ⟨⟨a1, a2⟩, b1, b2⟩] at h0
  rw [s6.1.2.1]
  refine ⟨fun z => ⟨zz.1, zz.2, h0 (fun w => w.2 z)⟩, fun z => ⟨⟨by omega, by omega⟩, fun u hu _ q1 _ q2 _ q3 => ⟨⟨by omega, by omega⟩, ?_⟩⟩⟩
  unfold wpRD_X80_init
  intro _ r1
  refine ⟨hv, fun _ r2 _ r3 => ⟨1, 45, ⟨by omega, by omega⟩, ?_⟩⟩
  subst q1 q2 q3 r1 r2 r3
  rw [va_up_up, va_up_up, va_up_up]
  have le : kLe kd an (va_up kd u 8) an := kLe_new hu (fun _ _ => rfl)
  have nz : ∀ a, kd a ≠ 0 → a ≠ u := fun a h e => h (by rw [e]; exact hu)
  have L1 := s6.1.mono (by decide) le
  have mb := hM 1 (by decide) (by decide)
  have ekr : ∀ i, 0 ≤ i → i < nr → ekRD (va_up kd u 8 (f1 i)) := fun i i0 i1 => by
    have h := (s6.2 i i0 i1).1
    rw [va_up_ne _ _ (nz _ (by rw [h]; decide)), h]; unfold ekRD; omega
  refine CRD_ladd (n := nr) (f := f1) (e := e1) L1 (by omega) (by omega) (by omega) (by omega) ekr (by rw [va_up_self]; unfold ekRD; omega) (fun kd' an' ar' ed' e' le' hL he hfr hed ke' hs0 _ => ⟨⟨by omega, by omega⟩, ?_⟩)
  rw [va_up_self]
  refine ⟨by omega, by omega, by omega, ?_⟩
  rw [show nr + 1 - 1 = nr by omega]
  have leT := kLe_tr le le'
  have hs : kd (sa 0) = 0 := Classical.byContradiction (fun w => w ((le _ w).1 ▸ hs0))
  have nu0 : va_up kd u 8 e1 = 15 → kd e1 = 15 := fun w => by
    by_cases e : e1 = u
    · rw [e, va_up_self] at w; exact absurd w (by decide)
    · rw [va_up_ne _ _ e] at w; exact w
  have he1 : (e' = e1 ∧ kd e1 = 15) ∨ kd e' = 0 := by
    rcases he with ⟨h1, h2⟩ | h
    · exact Or.inl ⟨h1, nu0 h2⟩
    · refine Or.inr (Classical.byContradiction (fun w => ?_))
      rw [(le e' w).1] at h; exact w h
  have nl : ∀ j, 0 ≤ j → j < 3 → j ≠ 1 → A 4 j ≠ A 4 1 := fun j a b c => s1.ne (i := 4) (i' := 4) ⟨a, b⟩ ⟨by decide, by show (1 : Int) < 3; decide⟩ (Or.inr c)
  have ne0 : 0 < nc → e0 ≠ e' := s5.1.ne (by decide) hE.1.1.symm hs he1
  have ne2 : 0 < nc → e2 ≠ e' := s7.ne (by decide) hE.1.2.2 hs he1
  have arr : ∀ a, kd a ≠ 0 → a ≠ e' → ar' a = ar a ∧ kd' a = kd a ∧ an' a = an a := fun a h w => ⟨(hfr a w).2.2, (leT a h).1, (leT a h).2⟩
  have n5 : A 5 0 ≠ e' := by
    have k5 : kd (A 5 0) = 14 := s1.kd_ 5 0 (by decide) z01
    intro e
    rcases he1 with ⟨h1, h2⟩ | h
    · rw [e, h1, h2] at k5; exact absurd k5 (by decide)
    · rw [e, h] at k5; exact absurd k5 (by decide)
  refine h1 ⟨⟨⟨a1, a2⟩, b1, b2⟩, z⟩ _ _ _ _ _ _ _ _ _ ⟨A, gi, e0, f0, e', updI f1 nr u, e2, D, B, rfl, ⟨s1.kLe leT, s2, ⟨s3.1, by omega, fun i i0 i1 => ?_⟩, s4, ⟨s5.1.fr (by decide) leT (fun a h => (hfr a h).2.2) ne0 (hed _ (nl 0 (by decide) (by decide) (by decide))) (va_up_ne _ _ (nl 0 (by decide) (by decide) (by decide))), fun k k0 k1 => ?_⟩, ⟨hL, fun i i0 i1 => ?_⟩, s7.fr (by decide) leT (fun a h => (hfr a h).2.2) ne2 (hed _ (nl 2 (by decide) (by decide) (by decide))) (va_up_ne _ _ (nl 2 (by decide) (by decide) (by decide))), fun q q0 q1 => ?_⟩, hB, hT, fun j j0 j1 => ?_, ⟨(hE.1.1.symm.up (by decide) leT s5.1.own he1).symm, hE.1.2.1.le (by decide) leT s5.1.own s7.own, hE.1.2.2.up (by decide) leT s7.own he1⟩, fun w _ => ne0 w, hE.2.2.1, fun _ w => (ne2 w).symm⟩
  · by_cases e : i = nr
    · subst e; rw [updI_s, updI_s, updI_s]; exact ⟨⟨a1, a2⟩, hv, b1, b2⟩
    · rw [updI_n e, updI_n e, updI_n e]; exact s3.2.2 i i0 (by omega)
  · have kk' : ∀ a, kd a ≠ 0 → kd' a = kd a := fun a h => (leT a h).1
    rcases s5.2 k k0 k1 with ⟨w, ko, r⟩ | ⟨w, ko, r⟩ | ⟨w, ko, r⟩ | ⟨w, ko, r1, p, r2, kp, r3, lp, r4⟩ | ⟨w, ko⟩
    · exact Or.inl ⟨w, by rw [kk' _ (by rw [ko]; decide)]; exact ko, r⟩
    · exact Or.inr (Or.inl ⟨w, by rw [kk' _ (by rw [ko]; decide)]; exact ko, r⟩)
    · exact Or.inr (Or.inr (Or.inl ⟨w, by rw [kk' _ (by rw [ko]; decide)]; exact ko, r⟩))
    · exact Or.inr (Or.inr (Or.inr (Or.inl ⟨w, by rw [kk' _ (by rw [ko]; decide)]; exact ko, r1, p, r2, by rw [kk' _ (by rw [kp]; decide)]; exact kp, r3, by rw [(leT _ (by rw [kp]; decide)).2]; exact lp, r4⟩)))
    · exact Or.inr (Or.inr (Or.inr (Or.inr ⟨w, by rw [kk' _ (by rw [ko]; decide)]; exact ko⟩)))
  · by_cases e : i = nr
    · subst e
      rw [updI_s, updI_s, updI_s, updI_s, va_up_self, va_up_self, va_up_self]
      exact ⟨by rw [(le' u (by rw [va_up_self]; decide)).1, va_up_self], rfl, rfl, rfl⟩
    · rw [updI_n e, updI_n e, updI_n e, updI_n e]
      obtain ⟨o1, o2⟩ := s6.2 i i0 (by omega)
      have nf := nz (f1 i) (by rw [o1]; decide)
      rw [va_up_ne _ _ nf, va_up_ne _ _ nf, va_up_ne _ _ nf, (leT _ (by rw [o1]; decide)).1]
      exact ⟨o1, o2⟩
  · obtain ⟨d1, d2, d3⟩ := s8 q q0 q1
    refine ⟨?_, by rw [(leT _ (by rw [d2]; decide)).1]; exact d2, d3⟩
    rw [(hfr _ n5).2.2]; exact d1
  · by_cases e : j = 1
    · subst e; rw [va_up_self]; omega
    · rw [va_up_ne _ _ (nl j j0 j1 e)]; have := hM j j0 j1; omega
theorem CRD_conditions {post : Int → Prop} (H : rdOK kd an ai al ar mX27_groups mX27_conditions mX27_rules mX27_sets mX27_right mX27_known mX27_asks mX27_done mX27_more mX27_its mX27_allowed mX27_other mX27_order mX28_person mX28_graph mX28_predicate mX28_class0 mX28_version mX75_kind mX75_number mX75_groups mX76_from mX76_to mX77_of mX78_least mX78_of mX80_rank mX80_denies mX80_condition mJ1_modCount mJ2_elementData mJ2_size mJ4_words mJ4_wordsInUse mJ4_sizeIsSticky sa o T g kk a b c nc rk dn wn nr) (hp : post nc) : wpRD_X27_conditions post kd mX27_conditions mJ2_size o := by
  obtain ⟨A, gi, e0, f0, e1, f1, e2, D, B, rfl, S, hB, hT, hM, hE⟩ := id H
  unfold wpRD_X27_conditions wpRD_J2_size
  exact kOn_of S.2.1.2.1.1 ⟨S.k 4 0 (by decide) (by show (0 : Int) < 3; decide), by rw [S.2.2.2.2.1.1.2.1]; exact hp⟩
theorem CRD_rules {post : Int → Prop} (H : rdOK kd an ai al ar mX27_groups mX27_conditions mX27_rules mX27_sets mX27_right mX27_known mX27_asks mX27_done mX27_more mX27_its mX27_allowed mX27_other mX27_order mX28_person mX28_graph mX28_predicate mX28_class0 mX28_version mX75_kind mX75_number mX75_groups mX76_from mX76_to mX77_of mX78_least mX78_of mX80_rank mX80_denies mX80_condition mJ1_modCount mJ2_elementData mJ2_size mJ4_words mJ4_wordsInUse mJ4_sizeIsSticky sa o T g kk a b c nc rk dn wn nr) (hp : post nr) : wpRD_X27_rules post kd mX27_rules mJ2_size o := by
  obtain ⟨A, gi, e0, f0, e1, f1, e2, D, B, rfl, S, hB, hT, hM, hE⟩ := id H
  unfold wpRD_X27_rules wpRD_J2_size
  exact kOn_of S.2.1.2.1.2.1 ⟨S.k 4 1 (by decide) (by show (1 : Int) < 3; decide), by rw [S.2.2.2.2.2.1.1.2.1]; exact hp⟩
end
