/-! RightDesk (room RD): sets of asks -/
/-- what the room is, but its scratch (known, order, bit sets) -/
def rdS0 (kd : Nat → Nat) (an : Nat → Nat) (ai : Nat → Int → Int) (al : Nat → Int → Int) (ar : Nat → Int → Option Nat) (mX27_groups : Nat → Option Nat) (mX27_conditions : Nat → Option Nat) (mX27_rules : Nat → Option Nat) (mX27_sets : Nat → Option Nat) (mX27_right : Nat → Int) (mX27_known : Nat → Option Nat) (mX27_asks : Nat → Option Nat) (mX27_done : Nat → Option Nat) (mX27_more : Nat → Option Nat) (mX27_its : Nat → Option Nat) (mX27_allowed : Nat → Option Nat) (mX27_other : Nat → Option Nat) (mX27_order : Nat → Option Nat) (mX28_person : Nat → Int) (mX28_graph : Nat → Int) (mX28_predicate : Nat → Int) (mX28_class0 : Nat → Int) (mX28_version : Nat → Int) (mX75_kind : Nat → Int) (mX75_number : Nat → Int) (mX75_groups : Nat → Option Nat) (mX76_from : Nat → Int) (mX76_to : Nat → Int) (mX77_of : Nat → Int) (mX78_least : Nat → Int) (mX78_of : Nat → Option Nat) (mX80_rank : Nat → Int) (mX80_denies : Nat → Int) (mX80_condition : Nat → Int) (mJ1_modCount : Nat → Int) (mJ2_elementData : Nat → Option Nat) (mJ2_size : Nat → Int) (mJ4_words : Nat → Option Nat) (mJ4_wordsInUse : Nat → Int) (mJ4_sizeIsSticky : Nat → Int) (sa : Nat → Nat) (A : Nat → Int → Nat) (gi : Nat → Nat × Int) (g kk a b c : Int → Int) (nc : Int) (rk dn wn : Int → Int) (nr : Int) (e0 : Nat) (f0 : Int → Nat) (e1 : Nat) (f1 : Int → Nat) (e2 : Nat) (D : Int → Nat) : Prop :=
  Lab rK rL kd an A gi (rN nc) ∧ rdF mX27_groups mX27_conditions mX27_rules mX27_sets mX27_known mX27_asks mX27_done mX27_more mX27_its mX27_allowed mX27_other mX27_order A ∧ rdI kk a b c nc rk dn wn nr ∧ (∀ p, 0 ≤ p → p < 8 → ai (A 1 0) p = g p) ∧
  rdCs kd an ai ar mX75_kind mX75_number mX75_groups mX76_from mX76_to mX77_of mX78_least mX78_of mJ2_elementData mJ2_size (sa 0) A kk a b c nc e0 f0 ∧ rdRs kd an ar mX80_rank mX80_denies mX80_condition mJ2_elementData mJ2_size (sa 0) A rk dn wn nr e1 f1 ∧
  lsOK kd an ar mJ2_elementData mJ2_size 15 (sa 0) (A 4 2) e2 nc (fun k => A 6 (5 + k)) ∧ rdAs kd ar mX28_person mX28_graph mX28_predicate mX28_class0 mX28_version A D
/-- bit sets -/
def rdBB (al : Nat → Int → Int) (wd : Nat → Option Nat) (iu : Nat → Int) (A : Nat → Int → Nat) (n : Int) (B : Int → Int → Prop) : Prop := ∀ i, 0 ≤ i → i < n → wd (A 6 i) = some (A 7 i) ∧ bsOK 96 (al (A 7 i)) (iu (A 6 i)) (B i)
section
variable {kd : Nat → Nat} {an : Nat → Nat} {ai : Nat → Int → Int} {al : Nat → Int → Int} {ar : Nat → Int → Option Nat} {mX27_groups : Nat → Option Nat} {mX27_conditions : Nat → Option Nat} {mX27_rules : Nat → Option Nat} {mX27_sets : Nat → Option Nat} {mX27_right : Nat → Int} {mX27_known : Nat → Option Nat} {mX27_asks : Nat → Option Nat} {mX27_done : Nat → Option Nat} {mX27_more : Nat → Option Nat} {mX27_its : Nat → Option Nat} {mX27_allowed : Nat → Option Nat} {mX27_other : Nat → Option Nat} {mX27_order : Nat → Option Nat} {mX28_person : Nat → Int} {mX28_graph : Nat → Int} {mX28_predicate : Nat → Int} {mX28_class0 : Nat → Int} {mX28_version : Nat → Int} {mX75_kind : Nat → Int} {mX75_number : Nat → Int} {mX75_groups : Nat → Option Nat} {mX76_from : Nat → Int} {mX76_to : Nat → Int} {mX77_of : Nat → Int} {mX78_least : Nat → Int} {mX78_of : Nat → Option Nat} {mX80_rank : Nat → Int} {mX80_denies : Nat → Int} {mX80_condition : Nat → Int} {mJ1_modCount : Nat → Int} {mJ2_elementData : Nat → Option Nat} {mJ2_size : Nat → Int} {mJ4_words : Nat → Option Nat} {mJ4_wordsInUse : Nat → Int} {mJ4_sizeIsSticky : Nat → Int} {sa : Nat → Nat} {A : Nat → Int → Nat} {gi : Nat → Nat × Int} {g kk a b c rk dn wn : Int → Int} {nc nr q : Int} {e0 e1 e2 o : Nat} {f0 f1 : Int → Nat} {D : Int → Nat} {B B' : Int → Int → Prop} {t i : Int} {wd : Nat → Option Nat} {iu st : Nat → Int} {MC MS : Nat}
theorem rdS0.k (S : rdS0 kd an ai al ar mX27_groups mX27_conditions mX27_rules mX27_sets mX27_right mX27_known mX27_asks mX27_done mX27_more mX27_its mX27_allowed mX27_other mX27_order mX28_person mX28_graph mX28_predicate mX28_class0 mX28_version mX75_kind mX75_number mX75_groups mX76_from mX76_to mX77_of mX78_least mX78_of mX80_rank mX80_denies mX80_condition mJ1_modCount mJ2_elementData mJ2_size mJ4_words mJ4_wordsInUse mJ4_sizeIsSticky sa A gi g kk a b c nc rk dn wn nr e0 f0 e1 f1 e2 D) (i : Nat) (j : Int) (h0 : 0 ≤ j) (h1 : j < rN nc i) : kd (A i j) = rK i := S.1.kd_ i j h0 h1
theorem rdS0.kn (S : rdS0 kd an ai al ar mX27_groups mX27_conditions mX27_rules mX27_sets mX27_right mX27_known mX27_asks mX27_done mX27_more mX27_its mX27_allowed mX27_other mX27_order mX28_person mX28_graph mX28_predicate mX28_class0 mX28_version mX75_kind mX75_number mX75_groups mX76_from mX76_to mX77_of mX78_least mX78_of mX80_rank mX80_denies mX80_condition mJ1_modCount mJ2_elementData mJ2_size mJ4_words mJ4_wordsInUse mJ4_sizeIsSticky sa A gi g kk a b c nc rk dn wn nr e0 f0 e1 f1 e2 D) : rdKn kd an ai mX27_conditions mX27_known A g kk a b c nc :=
  ⟨S.2.2.1.1, ⟨S.2.1.2.1.1, S.2.1.1.2.2.1⟩, ⟨S.1.kd_ 4 0 (by decide) (by show (0 : Int) < 3; decide), S.1.kd_ 1 0 (by decide) z01, S.1.an_ 1 0 (by decide) z01 (by decide), S.1.kd_ 3 0 (by decide) z01, S.1.an_ 3 0 (by decide) z01 (by decide)⟩, S.2.2.2.1⟩
/-- scratch rows of numbers may change -/
theorem rdS0.ai3 (S : rdS0 kd an ai al ar mX27_groups mX27_conditions mX27_rules mX27_sets mX27_right mX27_known mX27_asks mX27_done mX27_more mX27_its mX27_allowed mX27_other mX27_order mX28_person mX28_graph mX28_predicate mX28_class0 mX28_version mX75_kind mX75_number mX75_groups mX76_from mX76_to mX77_of mX78_least mX78_of mX80_rank mX80_denies mX80_condition mJ1_modCount mJ2_elementData mJ2_size mJ4_words mJ4_wordsInUse mJ4_sizeIsSticky sa A gi g kk a b c nc rk dn wn nr e0 f0 e1 f1 e2 D) (f : Int → Int) : rdS0 kd an (va_up ai (A 3 0) f) al ar mX27_groups mX27_conditions mX27_rules mX27_sets mX27_right mX27_known mX27_asks mX27_done mX27_more mX27_its mX27_allowed mX27_other mX27_order mX28_person mX28_graph mX28_predicate mX28_class0 mX28_version mX75_kind mX75_number mX75_groups mX76_from mX76_to mX77_of mX78_least mX78_of mX80_rank mX80_denies mX80_condition mJ1_modCount mJ2_elementData mJ2_size mJ4_words mJ4_wordsInUse mJ4_sizeIsSticky sa A gi g kk a b c nc rk dn wn nr e0 f0 e1 f1 e2 D := by
  obtain ⟨s1, s2, s3, s4, s5, s6⟩ := S
  have k3 : kd (A 3 0) = 12 := s1.kd_ 3 0 (by decide) z01
  exact ⟨s1, s2, s3, fun p x y => by rw [va_up_ne _ _ (s1.ne ⟨by decide, z01⟩ ⟨by decide, z01⟩ (Or.inl (by decide)))]; exact s4 p x y, ⟨s5.1, fun k x y => rdCo_ai k3 (s5.2 k x y)⟩, s6⟩
theorem rdCo_ai2 {G O : Nat} {kk a b c : Int} {f : Int → Int} (H : rdCo kd an ai mX75_kind mX75_number mX75_groups mX76_from mX76_to mX77_of mX78_least mX78_of G O kk a b c o) : rdCo kd an (va_up ai O f) mX75_kind mX75_number mX75_groups mX76_from mX76_to mX77_of mX78_least mX78_of G O kk a b c o := by
  rcases H with h | h | h | ⟨w, ko, r1, p, r2, kp, r3, lp, r4, r5, r6⟩ | h
  · exact Or.inl h
  · exact Or.inr (Or.inl h)
  · exact Or.inr (Or.inr (Or.inl h))
  · have e : va_up ai O f p = ai p := va_up_ne _ _ r3.2
    exact Or.inr (Or.inr (Or.inr (Or.inl ⟨w, ko, r1, p, r2, kp, r3, lp, by rw [e]; exact r4, by rw [e]; exact r5, by rw [e]; exact r6⟩)))
  · exact Or.inr (Or.inr (Or.inr (Or.inr h)))
theorem rdS0.ai2 (S : rdS0 kd an ai al ar mX27_groups mX27_conditions mX27_rules mX27_sets mX27_right mX27_known mX27_asks mX27_done mX27_more mX27_its mX27_allowed mX27_other mX27_order mX28_person mX28_graph mX28_predicate mX28_class0 mX28_version mX75_kind mX75_number mX75_groups mX76_from mX76_to mX77_of mX78_least mX78_of mX80_rank mX80_denies mX80_condition mJ1_modCount mJ2_elementData mJ2_size mJ4_words mJ4_wordsInUse mJ4_sizeIsSticky sa A gi g kk a b c nc rk dn wn nr e0 f0 e1 f1 e2 D) (f : Int → Int) : rdS0 kd an (va_up ai (A 2 0) f) al ar mX27_groups mX27_conditions mX27_rules mX27_sets mX27_right mX27_known mX27_asks mX27_done mX27_more mX27_its mX27_allowed mX27_other mX27_order mX28_person mX28_graph mX28_predicate mX28_class0 mX28_version mX75_kind mX75_number mX75_groups mX76_from mX76_to mX77_of mX78_least mX78_of mX80_rank mX80_denies mX80_condition mJ1_modCount mJ2_elementData mJ2_size mJ4_words mJ4_wordsInUse mJ4_sizeIsSticky sa A gi g kk a b c nc rk dn wn nr e0 f0 e1 f1 e2 D := by
  obtain ⟨s1, s2, s3, s4, s5, s6⟩ := S
  exact ⟨s1, s2, s3, fun p x y => by rw [va_up_ne _ _ (s1.ne ⟨by decide, z01⟩ ⟨by decide, z01⟩ (Or.inl (by decide)))]; exact s4 p x y, ⟨s5.1, fun k x y => rdCo_ai2 (s5.2 k x y)⟩, s6⟩
theorem rdBB_up {f : Int → Int} {u : Int} {P : Int → Prop} (L : Lab rK rL kd an A gi (rN nc)) (H : rdBB al wd iu A (5 + nc) B) (h0 : 0 ≤ t) (h1 : t < 5 + nc) (hb : bsOK 96 f u P) : rdBB (va_up al (A 7 t) f) wd (va_up iu (A 6 t) u) A (5 + nc) (updI B t P) := by
  intro i i0 i1
  refine ⟨(H i i0 i1).1, ?_⟩
  by_cases hi : i = t
  · subst hi; rw [va_up_self, va_up_self, updI_s]; exact hb
  · rw [va_up_ne _ _ (L.ne (i := 7) (i' := 7) ⟨i0, i1⟩ ⟨h0, h1⟩ (Or.inr hi)), va_up_ne _ _ (L.ne (i := 6) (i' := 6) ⟨i0, i1⟩ ⟨h0, h1⟩ (Or.inr hi)), updI_n hi]
    exact (H i i0 i1).2
theorem CRD_bclear {post : (Nat → Int → Int) → (Nat → Int) → Prop} (L : Lab rK rL kd an A gi (rN nc)) (H : rdBB al wd iu A (5 + nc) B) (h0 : 0 ≤ t) (h1 : t < 5 + nc) (hp : ∀ al' iu', rdBB al' wd iu' A (5 + nc) (updI B t (fun _ => False)) → post al' iu') : wpRD_J4_clear_2 post kd an al wd iu (A 6 t) :=
  CRD_clear (H t h0 h1).1 (L.kd_ 7 t h0 h1) (by rw [L.an_ 7 t h0 h1 (by decide)]; rfl) (by decide) (H t h0 h1).2 (fun _ hf => hp _ _ (rdBB_up L H h0 h1 hf))
theorem CRD_bor {post : (Nat → Nat) → (Nat → Nat) → (Nat → Int → Int) → (Nat → Option Nat) → (Nat → Int) → (Nat → Int) → Prop} (L : Lab rK rL kd an A gi (rN nc)) (H : rdBB al wd iu A (5 + nc) B) (h0 : 0 ≤ t) (h1 : t < 5 + nc) (i0 : 0 ≤ i) (i1 : i < 5 + nc) (hn : t ≠ i) (hp : ∀ al' iu', rdBB al' wd iu' A (5 + nc) (updI B t (fun q => B t q ∨ B i q)) → post kd an al' wd iu' st) : wpRD_J4_or MC MS post kd an al wd iu st (A 6 t) (some (A 6 i)) :=
  CRD_or (H t h0 h1).1 (H i i0 i1).1 (L.kd_ 6 i i0 i1) (L.kd_ 7 t h0 h1) (L.kd_ 7 i i0 i1) (by rw [L.an_ 7 t h0 h1 (by decide)]; rfl) (by rw [L.an_ 7 i i0 i1 (by decide)]; rfl) (by decide) (L.ne (i := 6) (i' := 6) ⟨h0, h1⟩ ⟨i0, i1⟩ (Or.inr hn)) (L.ne (i := 7) (i' := 7) ⟨h0, h1⟩ ⟨i0, i1⟩ (Or.inr hn)) (H t h0 h1).2 (H i i0 i1).2 (fun _ _ hf => hp _ _ (rdBB_up L H h0 h1 hf))
theorem CRD_bandNot {post : (Nat → Int → Int) → (Nat → Int) → Prop} (L : Lab rK rL kd an A gi (rN nc)) (H : rdBB al wd iu A (5 + nc) B) (h0 : 0 ≤ t) (h1 : t < 5 + nc) (i0 : 0 ≤ i) (i1 : i < 5 + nc) (hn : t ≠ i) (hp : ∀ al' iu', rdBB al' wd iu' A (5 + nc) (updI B t (fun q => B t q ∧ ¬ B i q)) → post al' iu') : wpRD_J4_andNot post kd an al wd iu (A 6 t) (some (A 6 i)) :=
  CRD_andNot (H t h0 h1).1 (H i i0 i1).1 (L.kd_ 6 i i0 i1) (L.kd_ 7 t h0 h1) (L.kd_ 7 i i0 i1) (by rw [L.an_ 7 t h0 h1 (by decide)]; rfl) (by rw [L.an_ 7 i i0 i1 (by decide)]; rfl) (by decide) (L.ne (i := 7) (i' := 7) ⟨h0, h1⟩ ⟨i0, i1⟩ (Or.inr hn)) (H t h0 h1).2 (H i i0 i1).2 (fun _ _ hf => hp _ _ (rdBB_up L H h0 h1 hf))
theorem CRD_bxor {post : (Nat → Nat) → (Nat → Nat) → (Nat → Int → Int) → (Nat → Option Nat) → (Nat → Int) → (Nat → Int) → Prop} (L : Lab rK rL kd an A gi (rN nc)) (H : rdBB al wd iu A (5 + nc) B) (h0 : 0 ≤ t) (h1 : t < 5 + nc) (i0 : 0 ≤ i) (i1 : i < 5 + nc) (hn : t ≠ i) (hp : ∀ al' iu', rdBB al' wd iu' A (5 + nc) (updI B t (fun q => ¬ (B t q ↔ B i q))) → post kd an al' wd iu' st) : wpRD_J4_xor MC MS post kd an al wd iu st (A 6 t) (some (A 6 i)) :=
  CRD_xor (H t h0 h1).1 (H i i0 i1).1 (L.kd_ 6 i i0 i1) (L.kd_ 7 t h0 h1) (L.kd_ 7 i i0 i1) (by rw [L.an_ 7 t h0 h1 (by decide)]; rfl) (by rw [L.an_ 7 i i0 i1 (by decide)]; rfl) (by decide) (L.ne (i := 6) (i' := 6) ⟨h0, h1⟩ ⟨i0, i1⟩ (Or.inr hn)) (L.ne (i := 7) (i' := 7) ⟨h0, h1⟩ ⟨i0, i1⟩ (Or.inr hn)) (H t h0 h1).2 (H i i0 i1).2 (fun _ _ hf => hp _ _ (rdBB_up L H h0 h1 hf))
theorem CRD_bset {post : (Nat → Nat) → (Nat → Nat) → (Nat → Int → Int) → (Nat → Option Nat) → (Nat → Int) → (Nat → Int) → Prop} {v : Int} (L : Lab rK rL kd an A gi (rN nc)) (H : rdBB al wd iu A (5 + nc) B) (h0 : 0 ≤ t) (h1 : t < 5 + nc) (hq : 0 ≤ q ∧ q < 6144) (hp : ∀ al' iu', rdBB al' wd iu' A (5 + nc) (updI B t (fun r => if r = q then v ≠ 0 else B t r)) → post kd an al' wd iu' st) : wpRD_J4_set MC MS post kd an al wd iu st (A 6 t) q v :=
  CRD_setb (H t h0 h1).1 (L.kd_ 7 t h0 h1) (by rw [L.an_ 7 t h0 h1 (by decide)]; rfl) (by decide) (H t h0 h1).2 hq.1 (by omega) (fun _ _ hf => hp _ _ (rdBB_up L H h0 h1 hf))
theorem CRD_bcard {post : Int → Prop} (L : Lab rK rL kd an A gi (rN nc)) (H : rdBB al wd iu A (5 + nc) B) (h0 : 0 ≤ t) (h1 : t < 5 + nc) (hp : post (cntI (B t) 6144)) : wpRD_J4_cardinality post kd an al wd iu (A 6 t) :=
  CRD_card (H t h0 h1).1 (L.kd_ 7 t h0 h1) (by rw [L.an_ 7 t h0 h1 (by decide)]; rfl) (by decide) (H t h0 h1).2 hp
theorem CRD_bget {post : Int → Prop} (L : Lab rK rL kd an A gi (rN nc)) (H : rdBB al wd iu A (5 + nc) B) (h0 : 0 ≤ t) (h1 : t < 5 + nc) (hq : 0 ≤ q ∧ q < 6144) (hp1 : B t q → post 1) (hp0 : ¬ B t q → post 0) : wpRD_J4_get post kd an al wd iu (A 6 t) q :=
  CRD_get (A0 := True) (A1 := True) (H t h0 h1).1 (L.kd_ 7 t h0 h1) (by rw [L.an_ 7 t h0 h1 (by decide)]; rfl) (by decide) (H t h0 h1).2 hq.1 (by omega) hp1 hp0
theorem CRD_bnext {post : Int → Prop} (L : Lab rK rL kd an A gi (rN nc)) (H : rdBB al wd iu A (5 + nc) B) (h0 : 0 ≤ t) (h1 : t < 5 + nc) (hq : 0 ≤ q ∧ q < 100000) (hp1 : ∀ r, q ≤ r → r < 6144 → B t r → (∀ j, q ≤ j → j < r → ¬ B t j) → post r) (hp0 : (∀ j, q ≤ j → j < 6144 → ¬ B t j) → post (-1)) : wpRD_J4_nextSetBit post kd an al wd iu (A 6 t) q :=
  CRD_nsb (H t h0 h1).1 (L.kd_ 7 t h0 h1) (by rw [L.an_ 7 t h0 h1 (by decide)]; rfl) (by decide) (H t h0 h1).2 hq.1 (by omega) (fun r x y z w => hp1 r x (by omega) z w) (fun z => hp0 (fun j x y => z j x (by omega)))
theorem CRD_bempty {post : Int → Prop} (H : rdBB al wd iu A (5 + nc) B) (h0 : 0 ≤ t) (h1 : t < 5 + nc) (hp1 : (∀ q, 0 ≤ q → q < 6144 → ¬ B t q) → post 1) (hp0 : ¬ (∀ q, 0 ≤ q → q < 6144 → ¬ B t q) → post 0) : wpRD_J4_isEmpty post iu (A 6 t) := by
  obtain ⟨b1, b2, b3, b4⟩ := (H t h0 h1).2
  unfold wpRD_J4_isEmpty
  refine ⟨fun z => hp1 (fun q x y p => ?_), fun z => hp0 (fun w => ?_)⟩
  · have := (b4.2 q x (by omega)).mpr p
    rw [b3 (q / 64) (by omega) (by omega), zb_zero] at this
    exact absurd this (by decide)
  · refine b2 (by omega) (zb_064 (b4.1 _ (by omega) (by omega)) (fun k hk => zb_n0 (fun w2 => ?_)))
    have := b4.2 (64 * (iu (A 6 t) - 1) + k) (by omega) (by omega)
    rw [show (64 * (iu (A 6 t) - 1) + (k : Int)) / 64 = iu (A 6 t) - 1 by omega, show ((64 * (iu (A 6 t) - 1) + (k : Int)) % 64).toNat = k by omega] at this
    exact w _ (by omega) (by omega) (this.mp w2)
/-- what is in one set but not in another comes to a third -/
theorem CRD_put {post : (Nat → Nat) → (Nat → Nat) → (Nat → Int → Int) → (Nat → Option Nat) → (Nat → Int) → (Nat → Int) → Prop} {j : Int} (L : Lab rK rL kd an A gi (rN nc)) (H : rdBB al wd iu A (5 + nc) B) (h0 : 0 ≤ t ∧ t < 5 + nc) (hi : 0 ≤ i ∧ i < 5 + nc) (hj : 0 ≤ j ∧ j < 5 + nc) (n1 : t ≠ i) (n2 : t ≠ j) (hp : ∀ al' iu' B', rdBB al' wd iu' A (5 + nc) B' → (∀ s, s ≠ t → B' s = B s) → (∀ q, B' t q ↔ B i q ∧ ¬ B j q) → post kd an al' wd iu' st) : wpRD_X27_put MC MS post kd an al wd iu st (some (A 6 i)) (some (A 6 j)) (some (A 6 t)) := by
  unfold wpRD_X27_put
  refine kOn_some ⟨L.kd_ 6 t h0.1 h0.2, ⟨Nat.zero_le _, Nat.zero_le _⟩, CRD_bclear L H h0.1 h0.2 (fun al1 iu1 H1 => ⟨0, 0, ⟨Nat.zero_le _, Nat.zero_le _⟩, CRD_bor L H1 h0.1 h0.2 hi.1 hi.2 n1 (fun al2 iu2 H2 _ => ⟨⟨Nat.zero_le _, Nat.zero_le _⟩, CRD_bandNot L H2 h0.1 h0.2 hj.1 hj.2 n2 (fun al3 iu3 H3 => ⟨Nat.zero_le _, Nat.zero_le _, hp al3 iu3 _ H3 (fun s hs => ?_) (fun q => ?_)⟩)⟩)⟩)⟩
  · rw [updI_n hs, updI_n hs, updI_n hs]
  · rw [updI_s, updI_s, updI_n n2.symm, updI_n n2.symm, updI_s, updI_n n1.symm]
    simp
/-- the sets of conditions that are right -/
def rdRt (rt : Nat → Int) (A : Nat → Int → Nat) (g kk a b c : Int → Int) (nc : Int) (B : Int → Int → Prop) : Prop := (0 ≤ rt (A 0 0) ∧ rt (A 0 0) ≤ nc) ∧ ∀ k, 0 ≤ k → k < rt (A 0 0) → ∀ q, 0 ≤ q → q < 6144 → (B (5 + k) q ↔ rdHq g kk a b c k q)
theorem rdAk_n (H : rdAk kd mX28_person mX28_graph mX28_predicate mX28_class0 mX28_version o q) (hq : 0 ≤ q ∧ q < 6144) {post : Int → Prop} (hp : post q) : wpRD_X28_number post mX28_person mX28_graph mX28_predicate mX28_class0 mX28_version o := by
  obtain ⟨_, h1, h2, h3, h4, h5⟩ := H
  unfold wpRD_X28_number
  rw [h1, h2, h3, h4, h5]
  have e : (((q / 768 * 4 + q / 192 % 4) * 6 + q / 32 % 6) * 4 + q / 8 % 4) * 8 + q % 8 = q := by omega
  rw [e]
  exact ⟨by omega, hp⟩
theorem CRD_so43 {K : (Nat → Nat) → (Nat → Nat) → (Nat → Int → Int) → (Nat → Option Nat) → (Nat → Int) → (Nat → Int) → Nat → Nat → Prop} {kc ks : Nat} {R : Int} (S : rdS0 kd an ai al ar mX27_groups mX27_conditions mX27_rules mX27_sets mX27_right mX27_known mX27_asks mX27_done mX27_more mX27_its mX27_allowed mX27_other mX27_order mX28_person mX28_graph mX28_predicate mX28_class0 mX28_version mX75_kind mX75_number mX75_groups mX76_from mX76_to mX77_of mX78_least mX78_of mX80_rank mX80_denies mX80_condition mJ1_modCount mJ2_elementData mJ2_size mJ4_words mJ4_wordsInUse mJ4_sizeIsSticky sa A gi g kk a b c nc rk dn wn nr e0 f0 e1 f1 e2 D) (H : rdBB al mJ4_words mJ4_wordsInUse A (5 + nc) B) (hq : 0 ≤ q ∧ q < 6144) (hR : 0 ≤ R ∧ R ≤ nc) (hkc : kc ≤ MC ∧ ks ≤ MS)
    (hp : ∀ al' iu' B', rdBB al' mJ4_words iu' A (5 + nc) B' → (∀ i r, ¬ (5 + R ≤ i ∧ r = q) → B' i r = B i r) → (∀ k, R ≤ k → k < nc → (B' (5 + k) q ↔ ¬ ai (A 3 0) k = 0)) → K kd an al' mJ4_words iu' mJ4_sizeIsSticky kc ks) :
    ∃ fu, wRD_X27_setOf_43 MC MS K (A 0 0) (some (D q)) ai ar mX27_conditions mX27_sets mX27_known mX28_person mX28_graph mX28_predicate mX28_class0 mX28_version mJ2_elementData mJ2_size fu R kd an al mJ4_words mJ4_wordsInUse mJ4_sizeIsSticky kc ks := by
  obtain ⟨s1, s2, s3, s4, s5, s6, s7, s8⟩ := id S
  have hC := s3.1.1
  refine wl3 (fun n x al iu => wRD_X27_setOf_43 MC MS K (A 0 0) (some (D q)) ai ar mX27_conditions mX27_sets mX27_known mX28_person mX28_graph mX28_predicate mX28_class0 mX28_version mJ2_elementData mJ2_size n x kd an al mJ4_words iu mJ4_sizeIsSticky kc ks) (fun x al iu => (R ≤ x ∧ x ≤ nc) ∧ ∃ B', rdBB al mJ4_words iu A (5 + nc) B' ∧ (∀ i r, ¬ (5 + R ≤ i ∧ r = q) → B' i r = B i r) ∧ ∀ k, R ≤ k → k < x → (B' (5 + k) q ↔ ¬ ai (A 3 0) k = 0)) (fun x _ _ => (nc - x).toNat) ?_ R al mJ4_wordsInUse ⟨by omega, B, H, fun _ _ _ => rfl, fun k x y => by omega⟩
  rintro x al iu ⟨hx, B', H1, h2, h3⟩ n ih
  rw [wRD_X27_setOf_43]
  unfold wpRD_J2_size
  have k4 : ∀ j, 0 ≤ j → j < 3 → kd (A 4 j) = 9 := fun j x y => s1.kd_ 4 j x y
  refine kOn_of s2.2.1.1 ⟨k4 0 (by decide) (by decide), hkc, ?_⟩
  rw [s5.1.2.1]
  refine ⟨fun z => hp al iu B' H1 h2 (fun k u v => h3 k u (by omega)), fun z => kOn_of s2.2.1.2.2 ⟨k4 2 (by decide) (by decide), hkc, CRD_lget s7 (by omega) (by omega) (kOn_some ⟨s1.kd_ 6 (5 + x) (by omega) (by show 5 + x < 5 + nc; omega), kOn_some ⟨(s8 q hq.1 hq.2).2.1, hkc, rdAk_n (s8 q hq.1 hq.2).2 hq (kOn_of s2.1.2.2.1 ⟨s1.kd_ 3 0 (by decide) z01, ?_, 0, 0, hkc, CRD_bset s1 H1 (by omega) (by omega) hq (fun al' iu' H2 _ => ⟨by omega, fun _ e1 => ?_⟩)⟩)⟩⟩)⟩⟩
  · rw [s1.an_ 3 0 (by decide) z01 (by decide)]; show 0 ≤ x ∧ x < 60; omega
  · subst e1
    refine ih _ _ _ ⟨by omega, _, H2, fun i r w => ?_, fun k u v => ?_⟩ (by omega)
    · by_cases hi : i = 5 + x
      · subst hi
        rw [updI_s, if_neg (fun e => w ⟨by omega, e⟩)]; exact h2 _ _ w
      · rw [updI_n hi]; exact h2 _ _ w
    · by_cases hk : k = x
      · subst hk; rw [updI_s, if_pos rfl]
      · rw [updI_n (by omega)]; exact h3 k u (by omega)
theorem CRD_setOf {post : (Option Nat) → (Nat → Nat) → (Nat → Nat) → (Nat → Int → Int) → (Nat → Int → Int) → (Nat → Int) → (Nat → Option Nat) → (Nat → Int) → (Nat → Int) → Prop} {x1 : Int} (S : rdS0 kd an ai al ar mX27_groups mX27_conditions mX27_rules mX27_sets mX27_right mX27_known mX27_asks mX27_done mX27_more mX27_its mX27_allowed mX27_other mX27_order mX28_person mX28_graph mX28_predicate mX28_class0 mX28_version mX75_kind mX75_number mX75_groups mX76_from mX76_to mX77_of mX78_least mX78_of mX80_rank mX80_denies mX80_condition mJ1_modCount mJ2_elementData mJ2_size mJ4_words mJ4_wordsInUse mJ4_sizeIsSticky sa A gi g kk a b c nc rk dn wn nr e0 f0 e1 f1 e2 D) (H : rdBB al mJ4_words mJ4_wordsInUse A (5 + nc) B) (T : rdRt mX27_right A g kk a b c nc B) (hx : 0 ≤ x1 ∧ x1 < nc)
    (hp : ∀ f al' iu' rt' B', rdBB al' mJ4_words iu' A (5 + nc) B' → rdRt rt' A g kk a b c nc B' → (∀ i, i < 5 → B' i = B i) → (x1 < rt' (A 0 0) ∧ mX27_right (A 0 0) ≤ rt' (A 0 0)) → post (some (A 6 (5 + x1))) kd an (va_up ai (A 3 0) f) al' rt' mJ4_words iu' mJ4_sizeIsSticky) : wpRD_X27_setOf MC MS post kd an ai al ar mX27_conditions mX27_sets mX27_right mX27_known mX27_asks mX28_person mX28_graph mX28_predicate mX28_class0 mX28_version mX75_kind mX75_number mX75_groups mX76_from mX76_to mX77_of mX78_least mX78_of mJ2_elementData mJ2_size mJ4_words mJ4_wordsInUse mJ4_sizeIsSticky (A 0 0) x1 := by
  obtain ⟨s1, s2, s3, s4, s5, s6, s7, s8⟩ := id S
  have hC := s3.1.1
  have k4 : ∀ j, 0 ≤ j → j < 3 → kd (A 4 j) = 9 := fun j x y => s1.kd_ 4 j x y
  have k6 : kd (A 6 (5 + x1)) = 10 := s1.kd_ 6 (5 + x1) (by omega) (by show 5 + x1 < 5 + nc; omega)
  have zz : (0 ≤ MC ∧ 0 ≤ MS) := ⟨Nat.zero_le _, Nat.zero_le _⟩
  unfold wpRD_X27_setOf
  refine ⟨fun z => kOn_of s2.2.1.2.2 ⟨k4 2 (by decide) (by decide), zz, CRD_lget s7 hx.1 hx.2 (kOn_some ⟨k6, zz.1, zz.2, ?_⟩)⟩, fun z r er => kOn_of (er.trans s2.1.2.2.2) ⟨s1.kd_ 5 0 (by decide) z01, ?_, fun m em => ?_⟩⟩
  · have := hp (ai (A 3 0)) al mJ4_wordsInUse mX27_right B H T (fun _ _ => rfl) ⟨z, Int.le_refl _⟩
    rw [va_up_id (f := ai) rfl] at this; exact this
  · rw [s1.an_ 5 0 (by decide) z01 (by decide)]; decide
  rw [s1.an_ 5 0 (by decide) z01 (by decide)] at em
  have em : m = 6144 := em
  have er : r = some (A 5 0) := er.trans s2.1.2.2.2
  subst em er
  refine wl4 (fun n x ai al iu => wRD_X27_setOf_19 MC MS _ (A 0 0) (some (A 5 0)) ((6144 : Int)) ar mX27_conditions mX27_sets mX27_right mX27_known mX28_person mX28_graph mX28_predicate mX28_class0 mX28_version mX75_kind mX75_number mX75_groups mX76_from mX76_to mX77_of mX78_least mX78_of mJ2_elementData mJ2_size n x kd an ai al mJ4_words iu mJ4_sizeIsSticky 0 0) (fun x ai2 al2 iu2 => (0 ≤ x ∧ x ≤ 6144) ∧ ∃ f B', ai2 = va_up ai (A 3 0) f ∧ rdBB al2 mJ4_words iu2 A (5 + nc) B' ∧ (∀ i r, ¬ (5 + mX27_right (A 0 0) ≤ i ∧ 0 ≤ r ∧ r < x) → B' i r = B i r) ∧ ∀ k, mX27_right (A 0 0) ≤ k → k < nc → ∀ r, 0 ≤ r → r < x → (B' (5 + k) r ↔ rdHq g kk a b c k r)) (fun x _ _ _ => (6144 - x).toNat) ?_ 0 ai al mJ4_wordsInUse ⟨by omega, ai (A 3 0), B, (va_up_id rfl).symm, H, fun _ _ _ => rfl, fun k u v r r0 r1 => by omega⟩
  rintro x ai2 al2 iu2 ⟨hx2, f, B', rfl, H1, h2, h3⟩ n ih
  rw [wRD_X27_setOf_19]
  refine ⟨fun w => ?_, fun w => kOn_some ⟨s1.kd_ 5 0 (by decide) z01, ?_, fun r er => ⟨zz, ?_⟩⟩⟩
  · have : x = 6144 := by omega
    subst this
    unfold wpRD_J2_size
    refine kOn_of s2.2.1.1 ⟨k4 0 (by decide) (by decide), zz, fun rt2 ert => kOn_of s2.2.1.2.2 ⟨k4 2 (by decide) (by decide), zz, CRD_lget s7 hx.1 hx.2 (kOn_some ⟨k6, zz.1, zz.2, ?_⟩)⟩⟩
    have e1 : rt2 (A 0 0) = nc := by rw [ert, va_up_self]; exact s5.1.2.1
    refine hp f al2 iu2 rt2 B' H1 ⟨by rw [e1]; omega, fun k u v q q0 q1 => ?_⟩ (fun i hi => funext (fun r => h2 i r (fun w => by have := T.1; omega))) (by rw [e1]; exact ⟨hx.2, T.1.2⟩)
    by_cases hk : k < mX27_right (A 0 0)
    · rw [h2 _ _ (fun w => by omega)]; exact T.2 k u hk q q0 q1
    · exact h3 k (by omega) (by omega) q q0 q1
  · rw [s1.an_ 5 0 (by decide) z01 (by decide)]; show 0 ≤ x ∧ x < 6144; omega
  · have hA := s8 x hx2.1 (by omega)
    rw [hA.1] at er
    subst er
    have S2 := S.ai3 f
    refine CRD_know S2.kn S2.2.2.2.2.1 hA.2 ⟨hx2.1, by omega⟩ (fun f2 hf2 _ e6 => ?_)
    subst e6
    rw [va_up_up]
    have S3 := S.ai3 f2
    have S3' : rdS0 kd an (va_up ai (A 3 0) f2) al2 ar mX27_groups mX27_conditions mX27_rules mX27_sets mX27_right mX27_known mX27_asks mX27_done mX27_more mX27_its mX27_allowed mX27_other mX27_order mX28_person mX28_graph mX28_predicate mX28_class0 mX28_version mX75_kind mX75_number mX75_groups mX76_from mX76_to mX77_of mX78_least mX78_of mX80_rank mX80_denies mX80_condition mJ1_modCount mJ2_elementData mJ2_size mJ4_words iu2 mJ4_sizeIsSticky sa A gi g kk a b c nc rk dn wn nr e0 f0 e1 f1 e2 D := S3
    refine CRD_so43 S3' H1 ⟨hx2.1, by omega⟩ T.1 zz (fun al3 iu3 B3 H3 h4 h5 => ⟨by omega, fun _ e7 => ?_⟩)
    subst e7
    rw [va_up_self] at h5
    refine ih _ _ _ _ ⟨by omega, f2, B3, rfl, H3, fun i r w2 => ?_, fun k u v r r0 r1 => ?_⟩ (by omega)
    · rw [h4 i r (fun w3 => w2 ⟨w3.1, by omega, by omega⟩)]
      exact h2 i r (fun w3 => w2 ⟨w3.1, by omega, by omega⟩)
    · by_cases hr : r = x
      · subst hr
        rw [h5 k u v, hf2 k (by have := T.1; omega) v]; exact Iff.rfl
      · rw [h4 _ r (fun w3 => hr w3.2)]
        exact h3 k u v r r0 (by omega)
end
