/-! RightDesk (room RD): idle, may, member -/
/-- rules that take what a new one of rank x would decide -/
def rdBl (rk dn : Int → Int) (x d r : Int) : Prop := rk r < x ∨ (rk r = x ∧ (¬ dn r = 0 ∨ d = 0))
section
variable {kd : Nat → Nat} {an : Nat → Nat} {ai : Nat → Int → Int} {al : Nat → Int → Int} {ar : Nat → Int → Option Nat} {mX27_groups : Nat → Option Nat} {mX27_conditions : Nat → Option Nat} {mX27_rules : Nat → Option Nat} {mX27_sets : Nat → Option Nat} {mX27_right : Nat → Int} {mX27_known : Nat → Option Nat} {mX27_asks : Nat → Option Nat} {mX27_done : Nat → Option Nat} {mX27_more : Nat → Option Nat} {mX27_its : Nat → Option Nat} {mX27_allowed : Nat → Option Nat} {mX27_other : Nat → Option Nat} {mX27_order : Nat → Option Nat} {mX28_person : Nat → Int} {mX28_graph : Nat → Int} {mX28_predicate : Nat → Int} {mX28_class0 : Nat → Int} {mX28_version : Nat → Int} {mX75_kind : Nat → Int} {mX75_number : Nat → Int} {mX75_groups : Nat → Option Nat} {mX76_from : Nat → Int} {mX76_to : Nat → Int} {mX77_of : Nat → Int} {mX78_least : Nat → Int} {mX78_of : Nat → Option Nat} {mX80_rank : Nat → Int} {mX80_denies : Nat → Int} {mX80_condition : Nat → Int} {mJ1_modCount : Nat → Int} {mJ2_elementData : Nat → Option Nat} {mJ2_size : Nat → Int} {mJ4_words : Nat → Option Nat} {mJ4_wordsInUse : Nat → Int} {mJ4_sizeIsSticky : Nat → Int} {sa : Nat → Nat} {o : Nat} {T : Int} {g kk a b c rk dn wn : Int → Int} {nc nr q : Int} {MC MS : Nat} {A : Nat → Int → Nat} {gi : Nat → Nat × Int} {e0 e1 e2 : Nat} {f0 f1 : Int → Nat} {D : Int → Nat} {B : Int → Int → Prop} {x d y : Int} {kc ks : Nat}
theorem rdWd_iff (hd : rdR rk dn wn nr nc) : rdWd g kk a b c rk dn wn nr q x d y ↔ rdHq g kk a b c y q ∧ ∀ r, 0 ≤ r → r < nr → rdBl rk dn x d r → ¬ rdHq g kk a b c (wn r) q := by
  have hn := hd.1
  have M := rdB_min (H := rdH g kk a b c q) (w := -1) hd nr.toNat (by omega)
  unfold rdWd rdDec
  generalize rdB rk dn wn (rdH g kk a b c q) (-1) nr.toNat = X at M ⊢
  rw [show ((nr.toNat : Nat) : Int) = nr by omega] at M
  refine and_congr Iff.rfl ?_
  unfold rdHq
  rcases M with ⟨m1, m2⟩ | ⟨m1, m2, m3, m4⟩
  · constructor
    · exact fun _ r r0 r1 _ w => w (m2 r r0 r1 (by omega))
    · exact fun _ => Or.inl (by omega)
  · have dX := (hd.2 X m1.1 m1.2).2.1
    constructor
    · intro w r r0 r1 bl h
      have dr := (hd.2 r r0 r1).2.1
      unfold rdBl at bl
      by_cases e : r = X
      · subst e; omega
      · have bf := (rdBf_iff hd ⟨m1.1, m1.2⟩ ⟨r0, r1⟩).mp (m4 r r0 r1 (by omega) h e)
        omega
    · intro w
      have this : ¬ rdBl rk dn x d X := fun bl => w X m1.1 m1.2 bl m3
      unfold rdBl at this
      omega
theorem CRD_id40 {K : (Nat → Nat) → (Nat → Nat) → (Nat → Int → Int) → (Nat → Int → Int) → (Nat → Int) → (Nat → Option Nat) → (Nat → Int) → (Nat → Int) → Nat → Nat → Prop} {Q : Int → Prop} (S : rdS0 kd an ai al ar mX27_groups mX27_conditions mX27_rules mX27_sets mX27_right mX27_known mX27_asks mX27_done mX27_more mX27_its mX27_allowed mX27_other mX27_order mX28_person mX28_graph mX28_predicate mX28_class0 mX28_version mX75_kind mX75_number mX75_groups mX76_from mX76_to mX77_of mX78_least mX78_of mX80_rank mX80_denies mX80_condition mJ1_modCount mJ2_elementData mJ2_size mJ4_words mJ4_wordsInUse mJ4_sizeIsSticky sa A gi g kk a b c nc rk dn wn nr e0 f0 e1 f1 e2 D) (hB : rdBB al mJ4_words mJ4_wordsInUse A (5 + nc) B) (hT : rdRt mX27_right A g kk a b c nc B) (hQ : ∀ q, 0 ≤ q → q < 6144 → (B 1 q ↔ Q q)) (hkc : kc ≤ MC ∧ ks ≤ MS)
    (hp : ∀ f al' iu' rt' B', rdBB al' mJ4_words iu' A (5 + nc) B' → rdRt rt' A g kk a b c nc B' → (∀ q, 0 ≤ q → q < 6144 → (B' 1 q ↔ Q q ∧ ∀ r, 0 ≤ r → r < nr → rdBl rk dn x d r → ¬ rdHq g kk a b c (wn r) q)) → K kd an (va_up ai (A 3 0) f) al' rt' mJ4_words iu' mJ4_sizeIsSticky kc ks) :
    ∃ fu, wRD_X27_idle_40 MC MS K (A 0 0) d x ar mX27_conditions mX27_rules mX27_sets mX27_known mX27_asks mX27_more mX28_person mX28_graph mX28_predicate mX28_class0 mX28_version mX75_kind mX75_number mX75_groups mX76_from mX76_to mX77_of mX78_least mX78_of mX80_rank mX80_denies mX80_condition mJ2_elementData mJ2_size fu 0 kd an ai al mX27_right mJ4_words mJ4_wordsInUse mJ4_sizeIsSticky kc ks := by
  obtain ⟨s1, s2, s3, s4, s5, s6, s7, s8⟩ := id S
  have hC := s3.1.1
  have hr := s3.2.1
  have k41 : kd (A 4 1) = 9 := s1.kd_ 4 1 (by decide) (by show (1 : Int) < 3; decide)
  refine wl5 (fun m i ai al rt iu => wRD_X27_idle_40 MC MS K (A 0 0) d x ar mX27_conditions mX27_rules mX27_sets mX27_known mX27_asks mX27_more mX28_person mX28_graph mX28_predicate mX28_class0 mX28_version mX75_kind mX75_number mX75_groups mX76_from mX76_to mX77_of mX78_least mX78_of mX80_rank mX80_denies mX80_condition mJ2_elementData mJ2_size m i kd an ai al rt mJ4_words iu mJ4_sizeIsSticky kc ks) (fun i ai2 al2 rt2 iu2 => (0 ≤ i ∧ i ≤ nr) ∧ ∃ f B', ai2 = va_up ai (A 3 0) f ∧ rdBB al2 mJ4_words iu2 A (5 + nc) B' ∧ rdRt rt2 A g kk a b c nc B' ∧ ∀ q, 0 ≤ q → q < 6144 → (B' 1 q ↔ Q q ∧ ∀ r, 0 ≤ r → r < i → rdBl rk dn x d r → ¬ rdHq g kk a b c (wn r) q)) (fun i _ _ _ _ => (nr - i).toNat) ?_ 0 ai al mX27_right mJ4_wordsInUse ⟨by omega, ai (A 3 0), B, (va_up_id rfl).symm, hB, hT, fun q q0 q1 => (hQ q q0 q1).trans ⟨fun w => ⟨w, fun r r0 r1 => by omega⟩, fun w => w.1⟩⟩
  rintro i ai2 al2 rt2 iu2 ⟨hi, f, B2, rfl, hB2, hT2, h1⟩ m ih
  rw [wRD_X27_idle_40]
  unfold wpRD_J2_size
  refine kOn_of s2.2.1.2.1 ⟨k41, hkc, ?_⟩
  rw [s6.1.2.1]
  refine ⟨fun z => ?_, fun z => ⟨hkc, ?_⟩⟩
  · have : i = nr := by omega
    subst this
    exact hp f al2 iu2 rt2 B2 hB2 hT2 h1
  obtain ⟨p1, p2, p3, p4⟩ := s6.2 i hi.1 (by omega)
  have hw := (s3.2.2 i hi.1 (by omega)).2.2
  refine CRD_lget s6.1 hi.1 (by omega) (kOn_some ⟨p1, ?_⟩)
  rw [p2, p3, p4]
  have skip : ¬ rdBl rk dn x d i → (zR (i + 1) ∧ ∀ z : Int, z = i + 1 → wRD_X27_idle_40 MC MS K (A 0 0) d x ar mX27_conditions mX27_rules mX27_sets mX27_known mX27_asks mX27_more mX28_person mX28_graph mX28_predicate mX28_class0 mX28_version mX75_kind mX75_number mX75_groups mX76_from mX76_to mX77_of mX78_least mX78_of mX80_rank mX80_denies mX80_condition mJ2_elementData mJ2_size m z kd an (va_up ai (A 3 0) f) al2 rt2 mJ4_words iu2 mJ4_sizeIsSticky kc ks) := by
    intro w
    refine ⟨by omega, fun _ e => ?_⟩
    subst e
    refine ih _ _ _ _ _ ⟨by omega, f, B2, rfl, hB2, hT2, fun q q0 q1 => (h1 q q0 q1).trans ⟨fun t => ⟨t.1, fun r r0 r1 bl => ?_⟩, fun t => ⟨t.1, fun r r0 r1 bl => t.2 r r0 (by omega) bl⟩⟩⟩ (by omega)
    by_cases hr : r = i
    · subst hr; exact absurd bl w
    · exact t.2 r r0 (by omega) bl
  have take : rdBl rk dn x d i → wpRD_X27_setOf 0 0 (fun r_43 kd_44 an_45 ai_46 al_47 mX27_right_48 mJ4_words_49 mJ4_wordsInUse_50 mJ4_sizeIsSticky_51 => kLe kd an kd_44 an_45 → kOn (mX27_more (A 0 0)) (fun b_57 => kd_44 b_57 = 10 ∧ (kc + 0 ≤ MC ∧ ks + 0 ≤ MS) ∧ wpRD_J4_andNot (fun al_59 mJ4_wordsInUse_60 => zR (i + 1) ∧ ∀ x4_62 : Int, x4_62 = i + 1 → wRD_X27_idle_40 MC MS K (A 0 0) d x ar mX27_conditions mX27_rules mX27_sets mX27_known mX27_asks mX27_more mX28_person mX28_graph mX28_predicate mX28_class0 mX28_version mX75_kind mX75_number mX75_groups mX76_from mX76_to mX77_of mX78_least mX78_of mX80_rank mX80_denies mX80_condition mJ2_elementData mJ2_size m x4_62 kd_44 an_45 ai_46 al_59 mX27_right_48 mJ4_words_49 mJ4_wordsInUse_60 mJ4_sizeIsSticky_51 (kc + 0) (ks + 0)) kd_44 an_45 al_47 mJ4_words_49 mJ4_wordsInUse_50 b_57 r_43)) kd an (va_up ai (A 3 0) f) al2 ar mX27_conditions mX27_sets rt2 mX27_known mX27_asks mX28_person mX28_graph mX28_predicate mX28_class0 mX28_version mX75_kind mX75_number mX75_groups mX76_from mX76_to mX77_of mX78_least mX78_of mJ2_elementData mJ2_size mJ4_words iu2 mJ4_sizeIsSticky (A 0 0) (wn i) := by
    intro w
    have S2 : rdS0 kd an (va_up ai (A 3 0) f) al2 ar mX27_groups mX27_conditions mX27_rules mX27_sets rt2 mX27_known mX27_asks mX27_done mX27_more mX27_its mX27_allowed mX27_other mX27_order mX28_person mX28_graph mX28_predicate mX28_class0 mX28_version mX75_kind mX75_number mX75_groups mX76_from mX76_to mX77_of mX78_least mX78_of mX80_rank mX80_denies mX80_condition mJ1_modCount mJ2_elementData mJ2_size mJ4_words iu2 mJ4_sizeIsSticky sa A gi g kk a b c nc rk dn wn nr e0 f0 e1 f1 e2 D := S.ai3 f
    refine CRD_setOf S2 hB2 hT2 hw (fun f5 al5 iu5 rt5 B5 hB5 hT5 u5 v5 _ => kOn_of s2.2.2.2.1 ⟨s1.kd_ 6 1 (by decide) (by show (1 : Int) < 5 + nc; omega), hkc, ?_⟩)
    rw [va_up_up]
    refine CRD_bandNot s1 hB5 (by decide) (by omega) (by omega) (by omega) (by omega) (fun al6 iu6 hB6 => ⟨by omega, fun _ e => ?_⟩)
    subst e
    refine ih _ _ _ _ _ ⟨by omega, f5, _, rfl, hB6, ⟨hT5.1, fun k k0 k1 q q0 q1 => by rw [updI_n (by omega)]; exact hT5.2 k k0 k1 q q0 q1⟩, fun q q0 q1 => ?_⟩ (by omega)
    rw [updI_s, u5 1 (by decide), h1 q q0 q1, hT5.2 (wn i) hw.1 v5.1 q q0 q1]
    constructor
    · rintro ⟨⟨t1, t2⟩, t3⟩
      refine ⟨t1, fun r r0 r1 bl => ?_⟩
      by_cases hr : r = i
      · subst hr; exact t3
      · exact t2 r r0 (by omega) bl
    · rintro ⟨t1, t2⟩
      exact ⟨⟨t1, fun r r0 r1 bl => t2 r r0 (by omega) bl⟩, t2 i hi.1 (by omega) w⟩
  refine ⟨fun z1 => ⟨0, 0, hkc, take (Or.inl z1)⟩, fun z1 => ⟨fun z2 => ⟨fun z3 => ⟨fun z4 => ⟨0, 0, hkc, take (Or.inr ⟨z2, Or.inr z4⟩)⟩, fun z4 => skip (fun w => ?_)⟩, fun z3 => ⟨0, 0, hkc, take (Or.inr ⟨z2, Or.inl z3⟩)⟩⟩, fun z2 => skip (fun w => ?_)⟩⟩
  · unfold rdBl at w; omega
  · unfold rdBl at w; omega
theorem CRD_idle {post : Int → (Nat → Nat) → (Nat → Nat) → (Nat → Int → Int) → (Nat → Int → Int) → (Nat → Int) → (Nat → Option Nat) → (Nat → Int) → (Nat → Int) → Prop} (H : rdOK kd an ai al ar mX27_groups mX27_conditions mX27_rules mX27_sets mX27_right mX27_known mX27_asks mX27_done mX27_more mX27_its mX27_allowed mX27_other mX27_order mX28_person mX28_graph mX28_predicate mX28_class0 mX28_version mX75_kind mX75_number mX75_groups mX76_from mX76_to mX77_of mX78_least mX78_of mX80_rank mX80_denies mX80_condition mJ1_modCount mJ2_elementData mJ2_size mJ4_words mJ4_wordsInUse mJ4_sizeIsSticky sa o T g kk a b c nc rk dn wn nr) (hp : ∀ ai' al' iu' rt', rdOK kd an (ai') (al') ar mX27_groups mX27_conditions mX27_rules mX27_sets (rt') mX27_known mX27_asks mX27_done mX27_more mX27_its mX27_allowed mX27_other mX27_order mX28_person mX28_graph mX28_predicate mX28_class0 mX28_version mX75_kind mX75_number mX75_groups mX76_from mX76_to mX77_of mX78_least mX78_of mX80_rank mX80_denies mX80_condition mJ1_modCount mJ2_elementData mJ2_size mJ4_words (iu') mJ4_sizeIsSticky sa o T g kk a b c nc rk dn wn nr → post (rdIdle g kk a b c rk dn wn nc nr d y) kd an ai' al' rt' mJ4_words iu' mJ4_sizeIsSticky) : wpRD_X27_idle MC MS post kd an ai al ar mX27_conditions mX27_rules mX27_sets mX27_right mX27_known mX27_asks mX27_more mX28_person mX28_graph mX28_predicate mX28_class0 mX28_version mX75_kind mX75_number mX75_groups mX76_from mX76_to mX77_of mX78_least mX78_of mX80_rank mX80_denies mX80_condition mJ2_elementData mJ2_size mJ4_words mJ4_wordsInUse mJ4_sizeIsSticky o d y := by
  obtain ⟨A, gi, e0, f0, e1, f1, e2, D, B, rfl, S, hB, hT, hM, hE⟩ := id H
  have zz : (0 ≤ MC ∧ 0 ≤ MS) := ⟨Nat.zero_le _, Nat.zero_le _⟩
  have hC := S.2.2.1.1.1
  unfold wpRD_X27_idle
  unfold rdIdle at hp
  refine ⟨zz, CRD_isCond S (fun y0 y1 => ?_) (fun z => ⟨zz.1, zz.2, ?_⟩)⟩
  rotate_left
  · rw [if_neg z] at hp
    exact hp _ _ _ _ H
  rw [if_pos ⟨y0, y1⟩] at hp
  have k61 : kd (A 6 1) = 10 := S.k 6 1 (by decide) (by show (1 : Int) < 5 + nc; omega)
  refine wl5 (fun m x ai al rt iu => wRD_X27_idle_12 MC MS _ _ (A 0 0) d y ar mX27_conditions mX27_rules mX27_sets mX27_known mX27_asks mX27_more mX28_person mX28_graph mX28_predicate mX28_class0 mX28_version mX75_kind mX75_number mX75_groups mX76_from mX76_to mX77_of mX78_least mX78_of mX80_rank mX80_denies mX80_condition mJ2_elementData mJ2_size m x kd an ai al rt mJ4_words iu mJ4_sizeIsSticky 0 0) (fun x ai2 al2 rt2 iu2 => (0 ≤ x ∧ x ≤ 10) ∧ (∀ j, 0 ≤ j → j < x → ¬ rdIdl g kk a b c rk dn wn nr d y j) ∧ ∃ f B', ai2 = va_up ai (A 3 0) f ∧ rdBB al2 mJ4_words iu2 A (5 + nc) B' ∧ rdRt rt2 A g kk a b c nc B') (fun x _ _ _ _ => (10 - x).toNat) ?_ 0 ai al mX27_right mJ4_wordsInUse ⟨by omega, fun j x y => by omega, ai (A 3 0), B, (va_up_id rfl).symm, hB, hT⟩
  rintro x ai2 al2 rt2 iu2 ⟨hx, hno, f, B2, rfl, hB2, hT2⟩ m ih
  rw [wRD_X27_idle_12]
  refine ⟨fun z => ?_, fun z => kOn_of S.2.1.2.2.2.1 ⟨k61, zz, CRD_bclear S.1 hB2 (by decide) (by omega) (fun al3 iu3 hB3 => ⟨0, 0, zz, ?_⟩)⟩⟩
  · have e : fstI (rdIdl g kk a b c rk dn wn nr d y) 10 = x := fstI_u (by omega) (by omega) (fun w => by omega) hno
    have : x = 10 := by omega
    have ok := hp _ _ _ _ (⟨A, gi, e0, f0, e1, f1, e2, D, B2, rfl, S.ai3 f, hB2, hT2, hM, hE⟩ : rdOK kd an (va_up ai (A 3 0) f) al2 ar mX27_groups mX27_conditions mX27_rules mX27_sets rt2 mX27_known mX27_asks mX27_done mX27_more mX27_its mX27_allowed mX27_other mX27_order mX28_person mX28_graph mX28_predicate mX28_class0 mX28_version mX75_kind mX75_number mX75_groups mX76_from mX76_to mX77_of mX78_least mX78_of mX80_rank mX80_denies mX80_condition mJ1_modCount mJ2_elementData mJ2_size mJ4_words iu2 mJ4_sizeIsSticky sa (A 0 0) T g kk a b c nc rk dn wn nr)
    rw [e, this] at ok
    exact ⟨zz.1, zz.2, ok⟩
  · have T3 : rdRt rt2 A g kk a b c nc (updI B2 1 (fun _ => False)) := ⟨hT2.1, fun k k0 k1 q q0 q1 => by rw [updI_n (by omega)]; exact hT2.2 k k0 k1 q q0 q1⟩
    have S3 : rdS0 kd an (va_up ai (A 3 0) f) al3 ar mX27_groups mX27_conditions mX27_rules mX27_sets rt2 mX27_known mX27_asks mX27_done mX27_more mX27_its mX27_allowed mX27_other mX27_order mX28_person mX28_graph mX28_predicate mX28_class0 mX28_version mX75_kind mX75_number mX75_groups mX76_from mX76_to mX77_of mX78_least mX78_of mX80_rank mX80_denies mX80_condition mJ1_modCount mJ2_elementData mJ2_size mJ4_words iu3 mJ4_sizeIsSticky sa A gi g kk a b c nc rk dn wn nr e0 f0 e1 f1 e2 D := S.ai3 f
    refine CRD_setOf S3 hB3 T3 ⟨y0, y1⟩ (fun f5 al5 iu5 rt5 B5 hB5 hT5 u5 v5 _ => ⟨0, 0, zz, ?_⟩)
    rw [va_up_up]
    refine CRD_bor S.1 hB5 (by decide) (by omega) (by omega) (by omega) (by omega) (fun al6 iu6 hB6 _ => ?_)
    have T6 : rdRt rt5 A g kk a b c nc (updI B5 1 (fun q => B5 1 q ∨ B5 (5 + y) q)) := ⟨hT5.1, fun k k0 k1 q q0 q1 => by rw [updI_n (by omega)]; exact hT5.2 k k0 k1 q q0 q1⟩
    have S6 : rdS0 kd an (va_up ai (A 3 0) f5) al6 ar mX27_groups mX27_conditions mX27_rules mX27_sets rt5 mX27_known mX27_asks mX27_done mX27_more mX27_its mX27_allowed mX27_other mX27_order mX28_person mX28_graph mX28_predicate mX28_class0 mX28_version mX75_kind mX75_number mX75_groups mX76_from mX76_to mX77_of mX78_least mX78_of mX80_rank mX80_denies mX80_condition mJ1_modCount mJ2_elementData mJ2_size mJ4_words iu6 mJ4_sizeIsSticky sa A gi g kk a b c nc rk dn wn nr e0 f0 e1 f1 e2 D := S.ai3 f5
    refine CRD_id40 S6 hB6 T6 (Q := rdHq g kk a b c y) (fun q q0 q1 => ?_) zz (fun f7 al7 iu7 rt7 B7 hB7 hT7 h7 => kOn_of S.2.1.2.2.2.1 ⟨k61, zz, ?_⟩)
    · rw [updI_s, u5 1 (by decide), updI_s, hT5.2 y y0 v5.1 q q0 q1]; simp
    · rw [va_up_up]
      have iff : (∀ q, 0 ≤ q → q < 6144 → ¬ B7 1 q) ↔ rdIdl g kk a b c rk dn wn nr d y x := by
        unfold rdIdl
        constructor
        · exact fun w q q0 q1 t => w q q0 q1 ((h7 q q0 q1).mpr ((rdWd_iff S.2.2.1.2).mp t))
        · exact fun w q q0 q1 t => w q q0 q1 ((rdWd_iff S.2.2.1.2).mpr ((h7 q q0 q1).mp t))
      refine CRD_bempty hB7 (by decide) (by omega) (fun w => ⟨fun t => absurd t (by decide), fun _ => ⟨zz.1, zz.2, ?_⟩⟩) (fun w => ⟨fun _ => ⟨by omega, fun _ e => ?_⟩, fun t => absurd rfl t⟩)
      · have e : fstI (rdIdl g kk a b c rk dn wn nr d y) 10 = x := fstI_u (by omega) (by omega) (fun _ => iff.mp w) hno
        rw [e] at hp
        exact hp _ _ _ _ ⟨A, gi, e0, f0, e1, f1, e2, D, B7, rfl, S.ai3 f7, hB7, hT7, hM, hE⟩
      · subst e
        refine ih _ _ _ _ _ ⟨by omega, fun j j0 j1 => ?_, f7, B7, rfl, hB7, hT7⟩ (by omega)
        by_cases hj : j = x
        · subst hj; exact fun t => w (iff.mpr t)
        · exact hno j j0 (by omega)
/-- one more ask made on the way -/
theorem rdS0.ask (S : rdS0 kd an ai al ar mX27_groups mX27_conditions mX27_rules mX27_sets mX27_right mX27_known mX27_asks mX27_done mX27_more mX27_its mX27_allowed mX27_other mX27_order mX28_person mX28_graph mX28_predicate mX28_class0 mX28_version mX75_kind mX75_number mX75_groups mX76_from mX76_to mX77_of mX78_least mX78_of mX80_rank mX80_denies mX80_condition mJ1_modCount mJ2_elementData mJ2_size mJ4_words mJ4_wordsInUse mJ4_sizeIsSticky sa A gi g kk a b c nc rk dn wn nr e0 f0 e1 f1 e2 D) {u : Nat} {p1 p2 p3 p4 p5 : Int} (hu : kd u = 0) : rdS0 (va_up kd u 2) an ai al ar mX27_groups mX27_conditions mX27_rules mX27_sets mX27_right mX27_known mX27_asks mX27_done mX27_more mX27_its mX27_allowed mX27_other mX27_order (va_up mX28_person u p1) (va_up mX28_graph u p2) (va_up mX28_predicate u p3) (va_up mX28_class0 u p4) (va_up mX28_version u p5) mX75_kind mX75_number mX75_groups mX76_from mX76_to mX77_of mX78_least mX78_of mX80_rank mX80_denies mX80_condition mJ1_modCount mJ2_elementData mJ2_size mJ4_words mJ4_wordsInUse mJ4_sizeIsSticky sa A gi g kk a b c nc rk dn wn nr e0 f0 e1 f1 e2 D := by
  obtain ⟨s1, s2, s3, s4, s5, s6, s7, s8⟩ := S
  have le : kLe kd an (va_up kd u 2) an := kLe_new hu (fun _ _ => rfl)
  have ne : ∀ a, kd a ≠ 0 → va_up kd u 2 a = kd a := fun a h => (le a h).1
  refine ⟨s1.kLe le, s2, s3, s4, ⟨s5.1.mono (by decide) le, fun k x y => ?_⟩, ⟨s6.1.mono (by decide) le, fun r x y => ?_⟩, s7.mono (by decide) le, fun q x y => ?_⟩
  · rcases s5.2 k x y with ⟨w, ko, r⟩ | ⟨w, ko, r⟩ | ⟨w, ko, r⟩ | ⟨w, ko, r1, p, r2, kp, r3⟩ | ⟨w, ko⟩
    · exact Or.inl ⟨w, by rw [ne _ (by rw [ko]; decide)]; exact ko, r⟩
    · exact Or.inr (Or.inl ⟨w, by rw [ne _ (by rw [ko]; decide)]; exact ko, r⟩)
    · exact Or.inr (Or.inr (Or.inl ⟨w, by rw [ne _ (by rw [ko]; decide)]; exact ko, r⟩))
    · exact Or.inr (Or.inr (Or.inr (Or.inl ⟨w, by rw [ne _ (by rw [ko]; decide)]; exact ko, r1, p, r2, by rw [ne _ (by rw [kp]; decide)]; exact kp, r3⟩)))
    · exact Or.inr (Or.inr (Or.inr (Or.inr ⟨w, by rw [ne _ (by rw [ko]; decide)]; exact ko⟩)))
  · obtain ⟨h1, h2⟩ := s6.2 r x y
    exact ⟨by rw [ne _ (by rw [h1]; decide)]; exact h1, h2⟩
  · obtain ⟨h1, h2, h3⟩ := s8 q x y
    have nu : D q ≠ u := fun e => by rw [e, hu] at h2; exact absurd h2 (by decide)
    refine ⟨h1, by rw [ne _ (by rw [h2]; decide)]; exact h2, ?_⟩
    rw [va_up_ne _ _ nu, va_up_ne _ _ nu, va_up_ne _ _ nu, va_up_ne _ _ nu, va_up_ne _ _ nu]
    exact h3
theorem CRD_may {post : Int → (Nat → Nat) → (Nat → Int → Int) → (Nat → Int) → (Nat → Int) → (Nat → Int) → (Nat → Int) → (Nat → Int) → Prop} {p gr pr cl ve w : Int} (hMC : 1 ≤ MC) (hMS : 5 ≤ MS) (H : rdOK kd an ai al ar mX27_groups mX27_conditions mX27_rules mX27_sets mX27_right mX27_known mX27_asks mX27_done mX27_more mX27_its mX27_allowed mX27_other mX27_order mX28_person mX28_graph mX28_predicate mX28_class0 mX28_version mX75_kind mX75_number mX75_groups mX76_from mX76_to mX77_of mX78_least mX78_of mX80_rank mX80_denies mX80_condition mJ1_modCount mJ2_elementData mJ2_size mJ4_words mJ4_wordsInUse mJ4_sizeIsSticky sa o T g kk a b c nc rk dn wn nr) (hp : ∀ kd' ai' m1 m2 m3 m4 m5, rdOK (kd') an (ai') al ar mX27_groups mX27_conditions mX27_rules mX27_sets mX27_right mX27_known mX27_asks mX27_done mX27_more mX27_its mX27_allowed mX27_other mX27_order m1 m2 m3 m4 m5 mX75_kind mX75_number mX75_groups mX76_from mX76_to mX77_of mX78_least mX78_of mX80_rank mX80_denies mX80_condition mJ1_modCount mJ2_elementData mJ2_size mJ4_words mJ4_wordsInUse mJ4_sizeIsSticky sa o T g kk a b c nc rk dn wn nr → post (rdMay g kk a b c rk dn wn nr p gr pr cl ve w) kd' ai' m1 m2 m3 m4 m5) : wpRD_X27_may MC MS post kd an ai ar mX27_conditions mX27_rules mX27_known mX27_asks mX28_person mX28_graph mX28_predicate mX28_class0 mX28_version mX75_kind mX75_number mX75_groups mX76_from mX76_to mX77_of mX78_least mX78_of mX80_rank mX80_denies mX80_condition mJ2_elementData mJ2_size o p gr pr cl ve w := by
  obtain ⟨A, gi, e0, f0, e1, f1, e2, D, B, rfl, S, hB, hT, hM, hE⟩ := id H
  have zz : (0 + 1 ≤ MC ∧ 0 + 5 ≤ MS) := ⟨by omega, by omega⟩
  unfold wpRD_X27_may
  refine ⟨zz, fun u hu _ q1 _ q2 _ q3 _ q4 _ q5 => ⟨zz, ?_⟩⟩
  unfold wpRD_X28_init
  have S2 := S.ask (p1 := p) (p2 := gr) (p3 := pr) (p4 := cl) (p5 := ve) hu
  have hE2 : (lsDj (va_up kd u 2) 15 (sa 0) e0 e1 ∧ lsDj (va_up kd u 2) 15 (sa 0) e0 e2 ∧ lsDj (va_up kd u 2) 15 (sa 0) e1 e2) := by
    have h0 : va_up kd u 2 (sa 0) = 0 → kd (sa 0) = 0 := fun h => by
      by_cases e : sa 0 = u
      · rw [e]; exact hu
      · rw [va_up_ne _ _ e] at h; exact h
    have h15 : ∀ e, va_up kd u 2 e = 15 → kd e = 15 := fun e h => by
      by_cases eu : e = u
      · rw [eu, va_up_self] at h; exact absurd h (by decide)
      · rw [va_up_ne _ _ eu] at h; exact h
    exact ⟨fun x y z => hE.1.1 (h0 x) (h15 _ y) (h15 _ z), fun x y z => hE.1.2.1 (h0 x) (h15 _ y) (h15 _ z), fun x y z => hE.1.2.2 (h0 x) (h15 _ y) (h15 _ z)⟩
  intro _ r1 _ r2 _ r3 _ r4 _ r5
  subst q1 q2 q3 q4 q5 r1 r2 r3 r4 r5
  simp only [va_up_up]
  have OK : ∀ f, rdOK (va_up kd u 2) an (va_up ai (A 3 0) f) al ar mX27_groups mX27_conditions mX27_rules mX27_sets mX27_right mX27_known mX27_asks mX27_done mX27_more mX27_its mX27_allowed mX27_other mX27_order (va_up mX28_person u p) (va_up mX28_graph u gr) (va_up mX28_predicate u pr) (va_up mX28_class0 u cl) (va_up mX28_version u ve) mX75_kind mX75_number mX75_groups mX76_from mX76_to mX77_of mX78_least mX78_of mX80_rank mX80_denies mX80_condition mJ1_modCount mJ2_elementData mJ2_size mJ4_words mJ4_wordsInUse mJ4_sizeIsSticky sa (A 0 0) T g kk a b c nc rk dn wn nr := fun f => ⟨A, gi, e0, f0, e1, f1, e2, D, B, rfl, S2.ai3 f, hB, hT, hM, hE2, hE.2⟩
  have OK0 := OK (ai (A 3 0))
  rw [va_up_id (f := ai) rfl] at OK0
  unfold rdMay at hp
  have bad : ¬ ((0 ≤ p ∧ p < 8) ∧ (0 ≤ gr ∧ gr < 4) ∧ (0 ≤ pr ∧ pr < 6) ∧ (0 ≤ cl ∧ cl < 4) ∧ (0 ≤ ve ∧ ve < 8) ∧ (0 ≤ w ∧ w < 2)) → post (-1) (va_up kd u 2) ai (va_up mX28_person u p) (va_up mX28_graph u gr) (va_up mX28_predicate u pr) (va_up mX28_class0 u cl) (va_up mX28_version u ve) := by
    intro z
    have := hp _ _ _ _ _ _ _ OK0
    rw [pif_f z] at this; exact this
  refine ⟨zz, ?_⟩
  unfold wpRD_X28_isGood
  rw [va_up_self, va_up_self, va_up_self, va_up_self, va_up_self]
  refine CRD_isInB (fun a1 a2 => CRD_isInB (fun b1 b2 => CRD_isInB (fun c1 c2 => CRD_isInB (fun d1 d2 => CRD_isInB (fun f1' f2' => ⟨fun q => absurd q (by decide), fun _ => ⟨fun z => ⟨zz.1, zz.2, bad (by omega)⟩, fun z => ⟨fun z2 => ⟨zz, ?_⟩, fun z2 => ⟨zz.1, zz.2, bad (by omega)⟩⟩⟩⟩) (fun z => ⟨fun _ => ⟨zz.1, zz.2, bad (by omega)⟩, fun q => absurd rfl q⟩)) (fun z => ⟨fun _ => ⟨zz.1, zz.2, bad (by omega)⟩, fun q => absurd rfl q⟩)) (fun z => ⟨fun _ => ⟨zz.1, zz.2, bad (by omega)⟩, fun q => absurd rfl q⟩)) (fun z => ⟨fun _ => ⟨zz.1, zz.2, bad (by omega)⟩, fun q => absurd rfl q⟩)) (fun z => ⟨fun _ => ⟨zz.1, zz.2, bad (by omega)⟩, fun q => absurd rfl q⟩)
  unfold wpRD_X28_number
  rw [va_up_self, va_up_self, va_up_self, va_up_self, va_up_self]
  rw [pif_t ⟨⟨a1, a2⟩, ⟨b1, b2⟩, ⟨c1, c2⟩, ⟨d1, d2⟩, ⟨f1', f2'⟩, by omega, by omega⟩] at hp
  generalize eq : (((p * 4 + gr) * 6 + pr) * 4 + cl) * 8 + ve = Q at hp ⊢
  have hQ : 0 ≤ Q ∧ Q < 6144 := by omega
  have A8 := S2.2.2.2.2.2.2.2 Q hQ.1 hQ.2
  refine ⟨by omega, kOn_of S.2.1.1.2.2.2 ⟨S2.1.kd_ 5 0 (by decide) z01, by rw [S.1.an_ 5 0 (by decide) z01 (by decide)]; show 0 ≤ Q ∧ Q < 6144; exact hQ, fun r er => ⟨zz, ?_⟩⟩⟩
  rw [A8.1] at er
  subst er
  refine CRD_deciding S2.kn S2.2.2.2.2.1 A8.2 hQ S.2.1.2.1.2.1 (S2.1.kd_ 4 1 (by decide) (by show (1 : Int) < 3; decide)) S2.2.2.2.2.2.1 S.2.2.1.2 (fun f => ?_)
  have ok := hp _ _ _ _ _ _ _ (OK f)
  have hb := rdDec_b (g := g) S.2.2.1 Q (-1)
  unfold rdAl at ok
  generalize rdDec g kk a b c rk dn wn nr Q (-1) = X at ok hb ⊢
  unfold rdOr
  refine ⟨fun z3 => ⟨zz.1, zz.2, ?_⟩, fun z3 => ⟨fun z4 => ⟨zz.1, zz.2, ?_⟩, fun z4 => kOn_of S.2.1.2.1.2.1 ⟨S2.1.kd_ 4 1 (by decide) (by show (1 : Int) < 3; decide), zz, ?_⟩⟩⟩
  · rw [if_pos z3] at ok; exact ok
  · have : ¬ 0 ≤ X := by intro y; rw [if_pos y] at z4; omega
    rw [if_neg z3, pif_f (fun y => this y.1)] at ok
    exact ok
  · have hX : 0 ≤ X := by
      by_cases y : 0 ≤ X
      · exact y
      · rw [if_neg y] at z4; exact absurd (by decide) z4
    rw [if_pos hX]
    obtain ⟨p1, p2, p3, p4⟩ := S2.2.2.2.2.2.1.2 X hX hb.2
    refine CRD_lget S2.2.2.2.2.2.1.1 hX hb.2 (kOn_some ⟨p1, ?_⟩)
    rw [p3]
    rw [if_neg z3] at ok
    exact ⟨fun y => ⟨zz.1, zz.2, by rw [pif_t ⟨hX, y⟩] at ok; exact ok⟩, fun y => ⟨zz.1, zz.2, by rw [pif_f (fun t => y t.2)] at ok; exact ok⟩⟩
end
