/-! RightDesk (room RD): what is told of asks -/
/-- the room as a whole -/
def rdOK (kd : Nat → Nat) (an : Nat → Nat) (ai : Nat → Int → Int) (al : Nat → Int → Int) (ar : Nat → Int → Option Nat) (mX27_groups : Nat → Option Nat) (mX27_conditions : Nat → Option Nat) (mX27_rules : Nat → Option Nat) (mX27_sets : Nat → Option Nat) (mX27_right : Nat → Int) (mX27_known : Nat → Option Nat) (mX27_asks : Nat → Option Nat) (mX27_done : Nat → Option Nat) (mX27_more : Nat → Option Nat) (mX27_its : Nat → Option Nat) (mX27_allowed : Nat → Option Nat) (mX27_other : Nat → Option Nat) (mX27_order : Nat → Option Nat) (mX28_person : Nat → Int) (mX28_graph : Nat → Int) (mX28_predicate : Nat → Int) (mX28_class0 : Nat → Int) (mX28_version : Nat → Int) (mX75_kind : Nat → Int) (mX75_number : Nat → Int) (mX75_groups : Nat → Option Nat) (mX76_from : Nat → Int) (mX76_to : Nat → Int) (mX77_of : Nat → Int) (mX78_least : Nat → Int) (mX78_of : Nat → Option Nat) (mX80_rank : Nat → Int) (mX80_denies : Nat → Int) (mX80_condition : Nat → Int) (mJ1_modCount : Nat → Int) (mJ2_elementData : Nat → Option Nat) (mJ2_size : Nat → Int) (mJ4_words : Nat → Option Nat) (mJ4_wordsInUse : Nat → Int) (mJ4_sizeIsSticky : Nat → Int) (sa : Nat → Nat) (o : Nat) (T : Int) (g kk a b c : Int → Int) (nc : Int) (rk dn wn : Int → Int) (nr : Int) : Prop :=
  ∃ (A : Nat → Int → Nat) (gi : Nat → Nat × Int) (e0 : Nat) (f0 : Int → Nat) (e1 : Nat) (f1 : Int → Nat) (e2 : Nat) (D : Int → Nat) (B : Int → Int → Prop), A 0 0 = o ∧ rdS0 kd an ai al ar mX27_groups mX27_conditions mX27_rules mX27_sets mX27_right mX27_known mX27_asks mX27_done mX27_more mX27_its mX27_allowed mX27_other mX27_order mX28_person mX28_graph mX28_predicate mX28_class0 mX28_version mX75_kind mX75_number mX75_groups mX76_from mX76_to mX77_of mX78_least mX78_of mX80_rank mX80_denies mX80_condition mJ1_modCount mJ2_elementData mJ2_size mJ4_words mJ4_wordsInUse mJ4_sizeIsSticky sa A gi g kk a b c nc rk dn wn nr e0 f0 e1 f1 e2 D ∧ rdBB al mJ4_words mJ4_wordsInUse A (5 + nc) B ∧ rdRt mX27_right A g kk a b c nc B ∧
    (∀ j, 0 ≤ j → j < 3 → 0 ≤ mJ1_modCount (A 4 j) ∧ mJ1_modCount (A 4 j) ≤ T) ∧ (lsDj kd 15 (sa 0) e0 e1 ∧ lsDj kd 15 (sa 0) e0 e2 ∧ lsDj kd 15 (sa 0) e1 e2) ∧ ((0 < nc → 0 < nr → e0 ≠ e1) ∧ (0 < nc → e0 ≠ e2) ∧ (0 < nr → 0 < nc → e1 ≠ e2))
section
variable {kd : Nat → Nat} {an : Nat → Nat} {ai : Nat → Int → Int} {al : Nat → Int → Int} {ar : Nat → Int → Option Nat} {mX27_groups : Nat → Option Nat} {mX27_conditions : Nat → Option Nat} {mX27_rules : Nat → Option Nat} {mX27_sets : Nat → Option Nat} {mX27_right : Nat → Int} {mX27_known : Nat → Option Nat} {mX27_asks : Nat → Option Nat} {mX27_done : Nat → Option Nat} {mX27_more : Nat → Option Nat} {mX27_its : Nat → Option Nat} {mX27_allowed : Nat → Option Nat} {mX27_other : Nat → Option Nat} {mX27_order : Nat → Option Nat} {mX28_person : Nat → Int} {mX28_graph : Nat → Int} {mX28_predicate : Nat → Int} {mX28_class0 : Nat → Int} {mX28_version : Nat → Int} {mX75_kind : Nat → Int} {mX75_number : Nat → Int} {mX75_groups : Nat → Option Nat} {mX76_from : Nat → Int} {mX76_to : Nat → Int} {mX77_of : Nat → Int} {mX78_least : Nat → Int} {mX78_of : Nat → Option Nat} {mX80_rank : Nat → Int} {mX80_denies : Nat → Int} {mX80_condition : Nat → Int} {mJ1_modCount : Nat → Int} {mJ2_elementData : Nat → Option Nat} {mJ2_size : Nat → Int} {mJ4_words : Nat → Option Nat} {mJ4_wordsInUse : Nat → Int} {mJ4_sizeIsSticky : Nat → Int} {sa : Nat → Nat} {o : Nat} {T : Int} {g kk a b c rk dn wn : Int → Int} {nc nr q : Int} {MC MS : Nat}
theorem CRD_isInB {P Q : Prop} {v n : Int} (h1 : 0 ≤ v → v < n → Q) (h0 : ¬ (0 ≤ v ∧ v < n) → P) : wpRD_X27_isIn (fun r => (r = 0 → P) ∧ (¬ r = 0 → Q)) v n := by
  unfold wpRD_X27_isIn
  refine ⟨fun a => ⟨fun _ => h0 (by omega), fun q => absurd rfl q⟩, fun a => ⟨fun b => ⟨fun _ => h0 (by omega), fun q => absurd rfl q⟩, fun b => ⟨fun q => absurd q (by decide), fun _ => h1 (by omega) (by omega)⟩⟩⟩
theorem CRD_isCond {A : Nat → Int → Nat} {gi : Nat → Nat × Int} {e0 e1 e2 : Nat} {f0 f1 : Int → Nat} {D : Int → Nat} {P Q : Prop} {v : Int} (S : rdS0 kd an ai al ar mX27_groups mX27_conditions mX27_rules mX27_sets mX27_right mX27_known mX27_asks mX27_done mX27_more mX27_its mX27_allowed mX27_other mX27_order mX28_person mX28_graph mX28_predicate mX28_class0 mX28_version mX75_kind mX75_number mX75_groups mX76_from mX76_to mX77_of mX78_least mX78_of mX80_rank mX80_denies mX80_condition mJ1_modCount mJ2_elementData mJ2_size mJ4_words mJ4_wordsInUse mJ4_sizeIsSticky sa A gi g kk a b c nc rk dn wn nr e0 f0 e1 f1 e2 D) (h1 : 0 ≤ v → v < nc → Q) (h0 : ¬ (0 ≤ v ∧ v < nc) → P) : wpRD_X27_isCondition (fun r => (r = 0 → P) ∧ (¬ r = 0 → Q)) kd mX27_conditions mJ2_size (A 0 0) v := by
  obtain ⟨s1, s2, s3, s4, s5, s6, s7, s8⟩ := id S
  unfold wpRD_X27_isCondition wpRD_J2_size wpRD_X27_isIn
  refine kOn_of s2.2.1.1 ⟨s1.kd_ 4 0 (by decide) (by show (0 : Int) < 3; decide), ?_⟩
  rw [s5.1.2.1]
  refine ⟨fun a => ⟨Or.inl rfl, fun _ => h0 (by omega), fun q => absurd rfl q⟩, fun a => ⟨fun b => ⟨Or.inl rfl, fun _ => h0 (by omega), fun q => absurd rfl q⟩, fun b => ⟨Or.inr rfl, fun q => absurd q (by decide), fun _ => h1 (by omega) (by omega)⟩⟩⟩
theorem CRD_asks {post : Int → (Nat → Nat) → (Nat → Nat) → (Nat → Int → Int) → (Nat → Int → Int) → (Nat → Int) → (Nat → Option Nat) → (Nat → Int) → (Nat → Int) → Prop} {x : Int} (H : rdOK kd an ai al ar mX27_groups mX27_conditions mX27_rules mX27_sets mX27_right mX27_known mX27_asks mX27_done mX27_more mX27_its mX27_allowed mX27_other mX27_order mX28_person mX28_graph mX28_predicate mX28_class0 mX28_version mX75_kind mX75_number mX75_groups mX76_from mX76_to mX77_of mX78_least mX78_of mX80_rank mX80_denies mX80_condition mJ1_modCount mJ2_elementData mJ2_size mJ4_words mJ4_wordsInUse mJ4_sizeIsSticky sa o T g kk a b c nc rk dn wn nr) (hp : ∀ ai' al' iu' rt', rdOK kd an (ai') (al') ar mX27_groups mX27_conditions mX27_rules mX27_sets (rt') mX27_known mX27_asks mX27_done mX27_more mX27_its mX27_allowed mX27_other mX27_order mX28_person mX28_graph mX28_predicate mX28_class0 mX28_version mX75_kind mX75_number mX75_groups mX76_from mX76_to mX77_of mX78_least mX78_of mX80_rank mX80_denies mX80_condition mJ1_modCount mJ2_elementData mJ2_size mJ4_words (iu') mJ4_sizeIsSticky sa o T g kk a b c nc rk dn wn nr → post (rdAsks g kk a b c nc x) kd an ai' al' rt' mJ4_words iu' mJ4_sizeIsSticky) : wpRD_X27_asks MC MS post kd an ai al ar mX27_conditions mX27_sets mX27_right mX27_known mX27_asks mX28_person mX28_graph mX28_predicate mX28_class0 mX28_version mX75_kind mX75_number mX75_groups mX76_from mX76_to mX77_of mX78_least mX78_of mJ2_elementData mJ2_size mJ4_words mJ4_wordsInUse mJ4_sizeIsSticky o x := by
  obtain ⟨A, gi, e0, f0, e1, f1, e2, D, B, rfl, S, hB, hT, hM, hE⟩ := id H
  have zz : (0 ≤ MC ∧ 0 ≤ MS) := ⟨Nat.zero_le _, Nat.zero_le _⟩
  have hC := S.2.2.1.1.1
  unfold wpRD_X27_asks
  unfold rdAsks at hp
  refine ⟨zz, CRD_isCond S (fun x0 x1 => ⟨0, 0, zz, CRD_setOf S hB hT ⟨x0, x1⟩ (fun f al' iu' rt' B' hB' hT' hs hr _ => kOn_some ⟨S.k 6 (5 + x) (by omega) (by show 5 + x < 5 + nc; omega), zz, CRD_bcard S.1 hB' (by omega) (by omega) ⟨zz.1, zz.2, ?_⟩⟩)⟩) (fun z => ⟨zz.1, zz.2, ?_⟩)⟩
  · rw [if_pos ⟨x0, x1⟩] at hp
    have e : cntI (B' (5 + x)) 6144 = cntI (rdHq g kk a b c x) 6144 := cntI_c (fun q q0 q1 => hT'.2 x x0 hr.1 q q0 q1)
    rw [e]
    exact hp _ _ _ _ ⟨A, gi, e0, f0, e1, f1, e2, D, B', rfl, S.ai3 f, hB', hT', hM, hE⟩
  · rw [if_neg z] at hp
    exact hp _ _ _ _ H
theorem CRD_ask {post : Int → (Nat → Nat) → (Nat → Nat) → (Nat → Int → Int) → (Nat → Int → Int) → (Nat → Int) → (Nat → Option Nat) → (Nat → Int) → (Nat → Int) → Prop} {x i : Int} (hi : zR i) (H : rdOK kd an ai al ar mX27_groups mX27_conditions mX27_rules mX27_sets mX27_right mX27_known mX27_asks mX27_done mX27_more mX27_its mX27_allowed mX27_other mX27_order mX28_person mX28_graph mX28_predicate mX28_class0 mX28_version mX75_kind mX75_number mX75_groups mX76_from mX76_to mX77_of mX78_least mX78_of mX80_rank mX80_denies mX80_condition mJ1_modCount mJ2_elementData mJ2_size mJ4_words mJ4_wordsInUse mJ4_sizeIsSticky sa o T g kk a b c nc rk dn wn nr) (hp : ∀ ai' al' iu' rt', rdOK kd an (ai') (al') ar mX27_groups mX27_conditions mX27_rules mX27_sets (rt') mX27_known mX27_asks mX27_done mX27_more mX27_its mX27_allowed mX27_other mX27_order mX28_person mX28_graph mX28_predicate mX28_class0 mX28_version mX75_kind mX75_number mX75_groups mX76_from mX76_to mX77_of mX78_least mX78_of mX80_rank mX80_denies mX80_condition mJ1_modCount mJ2_elementData mJ2_size mJ4_words (iu') mJ4_sizeIsSticky sa o T g kk a b c nc rk dn wn nr → post (rdAsk g kk a b c nc x i) kd an ai' al' rt' mJ4_words iu' mJ4_sizeIsSticky) : wpRD_X27_ask MC MS post kd an ai al ar mX27_conditions mX27_sets mX27_right mX27_known mX27_asks mX28_person mX28_graph mX28_predicate mX28_class0 mX28_version mX75_kind mX75_number mX75_groups mX76_from mX76_to mX77_of mX78_least mX78_of mJ2_elementData mJ2_size mJ4_words mJ4_wordsInUse mJ4_sizeIsSticky o x i := by
  obtain ⟨A, gi, e0, f0, e1, f1, e2, D, B, rfl, S, hB, hT, hM, hE⟩ := id H
  have zz : (0 ≤ MC ∧ 0 ≤ MS) := ⟨Nat.zero_le _, Nat.zero_le _⟩
  have hC := S.2.2.1.1.1
  unfold wpRD_X27_ask
  unfold rdAsk at hp
  refine ⟨zz, CRD_isCond S (fun x0 x1 => ?_) (fun z => ⟨zz.1, zz.2, ?_⟩)⟩
  rotate_left
  · rw [if_neg z] at hp
    exact hp _ _ _ _ H
  rw [if_pos ⟨x0, x1⟩] at hp
  have k6 : kd (A 6 (5 + x)) = 10 := S.k 6 (5 + x) (by omega) (by show 5 + x < 5 + nc; omega)
  obtain ⟨C, hC1, hC2⟩ : ∃ C : Int, (∀ F, 0 ≤ F → F < 6144 → rdHq g kk a b c x F → cntI (rdHq g kk a b c x) F.toNat < C) ∧ ∀ k, 0 ≤ k → k ≤ 6144 → (∀ j, k ≤ j → j < 6144 → ¬ rdHq g kk a b c x j) → C = cntI (rdHq g kk a b c x) k.toNat := by
    obtain ⟨N, hN⟩ : ∃ N : Nat, N = 6144 := ⟨_, rfl⟩
    refine ⟨cntI (rdHq g kk a b c x) N, fun F p1 p2 t1 => ?_, fun k p1 p2 w => ?_⟩
    · have q1 : cntI (rdHq g kk a b c x) (F + 1).toNat = cntI (rdHq g kk a b c x) F.toNat + 1 := cntI_t p1 t1
      have q2 := cntI_add (p := rdHq g kk a b c x) (F + 1).toNat (N - (F + 1).toNat)
      rw [show (F + 1).toNat + (N - (F + 1).toNat) = N by omega] at q2
      have q3 := cntI_b (fun i_ => rdHq g kk a b c x ((F + 1).toNat + i_)) (N - (F + 1).toNat)
      omega
    · exact (cntI_up (p := rdHq g kk a b c x) (n := k.toNat) (m := N) (by omega) (fun j j0 j1 => w j (by omega) (by omega))).symm
  -- the loop
  have loop : ∀ k0 l0 ai0 al0 rt0 iu0, zR l0 → rdOK kd an ai0 al0 ar mX27_groups mX27_conditions mX27_rules mX27_sets rt0 mX27_known mX27_asks mX27_done mX27_more mX27_its mX27_allowed mX27_other mX27_order mX28_person mX28_graph mX28_predicate mX28_class0 mX28_version mX75_kind mX75_number mX75_groups mX76_from mX76_to mX77_of mX78_least mX78_of mX80_rank mX80_denies mX80_condition mJ1_modCount mJ2_elementData mJ2_size mJ4_words iu0 mJ4_sizeIsSticky sa (A 0 0) T g kk a b c nc rk dn wn nr → (∃ f B', ai0 = va_up ai (A 3 0) f ∧ rdBB al0 mJ4_words iu0 A (5 + nc) B' ∧ rdRt rt0 A g kk a b c nc B') → ((0 ≤ k0 ∧ k0 < 6144 ∧ 0 ≤ l0 ∧ rdHq g kk a b c x k0 ∧ cntI (rdHq g kk a b c x) k0.toNat = i - l0) ∨ (k0 < 0 ∧ (i < 0 ∨ C ≤ i))) →
      ∃ fu, wRD_X27_ask_32 MC MS (fun x3 kd_ an_ ai_ al_ rt_ wd_ iu_ st_ kc ks => (0 ≤ x3 → (kc ≤ MC ∧ ks ≤ MS ∧ post x3 kd_ an_ ai_ al_ rt_ wd_ iu_ st_)) ∧ (¬ 0 ≤ x3 → (kc ≤ MC ∧ ks ≤ MS ∧ post (-2) kd_ an_ ai_ al_ rt_ wd_ iu_ st_))) (A 0 0) x ar mX27_conditions mX27_sets mX27_known mX27_asks mX28_person mX28_graph mX28_predicate mX28_class0 mX28_version mX75_kind mX75_number mX75_groups mX76_from mX76_to mX77_of mX78_least mX78_of mJ2_elementData mJ2_size fu k0 l0 kd an ai0 al0 rt0 mJ4_words iu0 mJ4_sizeIsSticky 0 0 := by
    intro k0 l0 ai0 al0 rt0 iu0 hl h1 h2 h3
    refine wloop (fun n (s : Int × Int × (Nat → Int → Int) × (Nat → Int → Int) × (Nat → Int) × (Nat → Int)) => wRD_X27_ask_32 MC MS _ (A 0 0) x ar mX27_conditions mX27_sets mX27_known mX27_asks mX28_person mX28_graph mX28_predicate mX28_class0 mX28_version mX75_kind mX75_number mX75_groups mX76_from mX76_to mX77_of mX78_least mX78_of mJ2_elementData mJ2_size n s.1 s.2.1 kd an s.2.2.1 s.2.2.2.1 s.2.2.2.2.1 mJ4_words s.2.2.2.2.2 mJ4_sizeIsSticky 0 0)
      (fun s => zR s.2.1 ∧ rdOK kd an (s.2.2.1) (s.2.2.2.1) ar mX27_groups mX27_conditions mX27_rules mX27_sets (s.2.2.2.2.1) mX27_known mX27_asks mX27_done mX27_more mX27_its mX27_allowed mX27_other mX27_order mX28_person mX28_graph mX28_predicate mX28_class0 mX28_version mX75_kind mX75_number mX75_groups mX76_from mX76_to mX77_of mX78_least mX78_of mX80_rank mX80_denies mX80_condition mJ1_modCount mJ2_elementData mJ2_size mJ4_words (s.2.2.2.2.2) mJ4_sizeIsSticky sa (A 0 0) T g kk a b c nc rk dn wn nr ∧ (∃ f B', s.2.2.1 = va_up ai (A 3 0) f ∧ rdBB s.2.2.2.1 mJ4_words s.2.2.2.2.2 A (5 + nc) B' ∧ rdRt s.2.2.2.2.1 A g kk a b c nc B') ∧ ((0 ≤ s.1 ∧ s.1 < 6144 ∧ 0 ≤ s.2.1 ∧ rdHq g kk a b c x s.1 ∧ cntI (rdHq g kk a b c x) s.1.toNat = i - s.2.1) ∨ (s.1 < 0 ∧ (i < 0 ∨ C ≤ i)))) (fun s => s.2.1.toNat) ?_ (k0, l0, ai0, al0, rt0, iu0) ⟨hl, h1, h2, h3⟩
    rintro ⟨k, l, ai1, al1, rt1, iu1⟩ ⟨hl, h1, ⟨f, B1, ef, hB1, hT1⟩, h3⟩ n ih
    dsimp only at hl h1 ef hB1 hT1 h3 ih ⊢
    subst ef
    rw [wRD_X27_ask_32]
    have none : k < 0 → post (-2) kd an (va_up ai (A 3 0) f) al1 rt1 mJ4_words iu1 mJ4_sizeIsSticky := by
      intro hk
      have := hp _ _ _ _ h1
      rcases h3 with h3 | h3
      · omega
      · rw [if_neg ?_] at this
        · exact this
        · rintro ⟨a1, a2⟩
          obtain ⟨p1, p2, p3⟩ := fstI_s (rdNth (rdHq g kk a b c x) i) 6144
          have := p2 a2
          generalize fstI (rdNth (rdHq g kk a b c x) i) 6144 = F at p1 a2 this
          obtain ⟨t1, t2⟩ := this
          have := hC1 F p1.1 a2 t1
          omega
    have some_ : 0 ≤ k → l = 0 → post k kd an (va_up ai (A 3 0) f) al1 rt1 mJ4_words iu1 mJ4_sizeIsSticky := by
      intro hk hl0
      rcases h3 with h3 | h3
      · have ib := cntI_b (rdHq g kk a b c x) k.toNat
        have cnd : 0 ≤ i ∧ k < 6144 := by omega
        have e : fstI (rdNth (rdHq g kk a b c x) i) 6144 = k := by
          refine fstI_u hk (by omega) (fun _ => ⟨h3.2.2.2.1, by omega⟩) (fun j j0 j1 w => ?_)
          have q1 : cntI (rdHq g kk a b c x) (j + 1).toNat = cntI (rdHq g kk a b c x) j.toNat + 1 := cntI_t j0 w.1
          have q2 := cntI_add (p := rdHq g kk a b c x) (j + 1).toNat (k.toNat - (j + 1).toNat)
          rw [show (j + 1).toNat + (k.toNat - (j + 1).toNat) = k.toNat by omega] at q2
          have q3 := cntI_b (fun i_ => rdHq g kk a b c x ((j + 1).toNat + i_)) (k.toNat - (j + 1).toNat)
          have := w.2
          omega
        have := hp _ _ _ _ h1
        rw [e, if_pos cnd] at this
        exact this
      · omega
    refine ⟨fun z => ⟨fun w => ⟨zz.1, zz.2, some_ w ?_⟩, fun w => ⟨zz.1, zz.2, none (by omega)⟩⟩, fun z => ⟨fun w => ⟨fun w2 => by omega, fun _ => ⟨zz.1, zz.2, none w⟩⟩, fun w => ⟨0, 0, zz, ?_⟩⟩⟩
    · rcases h3 with h3 | h3 <;> omega
    · have S1 : rdS0 kd an (va_up ai (A 3 0) f) al1 ar mX27_groups mX27_conditions mX27_rules mX27_sets rt1 mX27_known mX27_asks mX27_done mX27_more mX27_its mX27_allowed mX27_other mX27_order mX28_person mX28_graph mX28_predicate mX28_class0 mX28_version mX75_kind mX75_number mX75_groups mX76_from mX76_to mX77_of mX78_least mX78_of mX80_rank mX80_denies mX80_condition mJ1_modCount mJ2_elementData mJ2_size mJ4_words iu1 mJ4_sizeIsSticky sa A gi g kk a b c nc rk dn wn nr e0 f0 e1 f1 e2 D := S.ai3 f
      refine CRD_setOf S1 hB1 hT1 ⟨x0, x1⟩ (fun f5 al5 iu5 rt5 B5 hB5 hT5 hs5 hr5 _ => kOn_some ⟨k6, by omega, zz, ?_⟩)
      rw [va_up_up]
      have OK5 : rdOK kd an (va_up ai (A 3 0) f5) al5 ar mX27_groups mX27_conditions mX27_rules mX27_sets rt5 mX27_known mX27_asks mX27_done mX27_more mX27_its mX27_allowed mX27_other mX27_order mX28_person mX28_graph mX28_predicate mX28_class0 mX28_version mX75_kind mX75_number mX75_groups mX76_from mX76_to mX77_of mX78_least mX78_of mX80_rank mX80_denies mX80_condition mJ1_modCount mJ2_elementData mJ2_size mJ4_words iu5 mJ4_sizeIsSticky sa (A 0 0) T g kk a b c nc rk dn wn nr := ⟨A, gi, e0, f0, e1, f1, e2, D, B5, rfl, S.ai3 f5, hB5, hT5, hM, hE⟩
      have h3' : 0 ≤ k ∧ k < 6144 ∧ 0 ≤ l ∧ rdHq g kk a b c x k ∧ cntI (rdHq g kk a b c x) k.toNat = i - l := by
        rcases h3 with h3 | h3
        · exact h3
        · omega
      have ck : cntI (rdHq g kk a b c x) (k + 1).toNat = cntI (rdHq g kk a b c x) k.toNat + 1 := cntI_t (by omega) h3'.2.2.2.1
      have bb : ∀ j, 0 ≤ j → j < 6144 → (B5 (5 + x) j ↔ rdHq g kk a b c x j) := fun j j0 j1 => hT5.2 x x0 hr5.1 j j0 j1
      refine CRD_bnext S.1 hB5 (by omega) (by omega) (by omega) (fun r r0 r1 r2 r3 => ⟨by omega, fun _ e4 => ?_⟩) (fun r0 => ⟨by omega, fun _ e4 => ?_⟩)
      · subst e4
        refine ih (r, _, _, _, _, _) ⟨by dsimp only; omega, OK5, ⟨f5, B5, rfl, hB5, hT5⟩, Or.inl ⟨by omega, r1, by dsimp only; omega, (bb r (by omega) r1).mp r2, ?_⟩⟩ (by dsimp only; omega)
        dsimp only
        have := cntI_up (p := rdHq g kk a b c x) (n := (k + 1).toNat) (m := r.toNat) (by omega) (fun j j0 j1 w => r3 j (by omega) (by omega) ((bb j (by omega) (by omega)).mpr w))
        omega
      · subst e4
        refine ih (-1, _, _, _, _, _) ⟨by dsimp only; omega, OK5, ⟨f5, B5, rfl, hB5, hT5⟩, Or.inr ⟨(by decide : (-1 : Int) < 0), Or.inr ?_⟩⟩ (by dsimp only; omega)
        have := hC2 (k + 1) (by omega) (by omega) (fun j j0 j1 w => r0 j (by omega) (by omega) ((bb j (by omega) (by omega)).mpr w))
        omega
  refine ⟨fun z => ⟨0, 0, zz, CRD_setOf S hB hT ⟨x0, x1⟩ (fun f5 al5 iu5 rt5 B5 hB5 hT5 hs5 hr5 _ => kOn_some ⟨k6, zz, ?_⟩)⟩, fun z => ?_⟩
  · have OK5 : rdOK kd an (va_up ai (A 3 0) f5) al5 ar mX27_groups mX27_conditions mX27_rules mX27_sets rt5 mX27_known mX27_asks mX27_done mX27_more mX27_its mX27_allowed mX27_other mX27_order mX28_person mX28_graph mX28_predicate mX28_class0 mX28_version mX75_kind mX75_number mX75_groups mX76_from mX76_to mX77_of mX78_least mX78_of mX80_rank mX80_denies mX80_condition mJ1_modCount mJ2_elementData mJ2_size mJ4_words iu5 mJ4_sizeIsSticky sa (A 0 0) T g kk a b c nc rk dn wn nr := ⟨A, gi, e0, f0, e1, f1, e2, D, B5, rfl, S.ai3 f5, hB5, hT5, hM, hE⟩
    have bb : ∀ j, 0 ≤ j → j < 6144 → (B5 (5 + x) j ↔ rdHq g kk a b c x j) := fun j j0 j1 => hT5.2 x x0 hr5.1 j j0 j1
    refine CRD_bnext S.1 hB5 (by omega) (by omega) (by omega) (fun r r0 r1 r2 r3 => ?_) (fun r0 => ?_)
    · refine loop r i _ _ _ _ hi OK5 ⟨f5, B5, rfl, hB5, hT5⟩ (Or.inl ⟨r0, r1, z, (bb r r0 r1).mp r2, ?_⟩)
      rw [cntI_0 (fun j j0 j1 w => r3 j j0 (by omega) ((bb j j0 (by omega)).mpr w))]; omega
    · refine loop (-1) i _ _ _ _ hi OK5 ⟨f5, B5, rfl, hB5, hT5⟩ (Or.inr ⟨by decide, Or.inr ?_⟩)
      have := hC2 0 (by omega) (by omega) (fun j j0 j1 w => r0 j j0 (by omega) ((bb j j0 (by omega)).mpr w))
      rw [show (0 : Int).toNat = 0 from rfl, cntI] at this
      omega
  · exact loop (-2) i _ _ _ _ hi H ⟨ai (A 3 0), B, (va_up_id rfl).symm, hB, hT⟩ (Or.inr ⟨by decide, Or.inl (by omega)⟩)
theorem CRD_within {post : Int → (Nat → Nat) → (Nat → Nat) → (Nat → Int → Int) → (Nat → Int → Int) → (Nat → Int) → (Nat → Option Nat) → (Nat → Int) → (Nat → Int) → Prop} {x y : Int} (H : rdOK kd an ai al ar mX27_groups mX27_conditions mX27_rules mX27_sets mX27_right mX27_known mX27_asks mX27_done mX27_more mX27_its mX27_allowed mX27_other mX27_order mX28_person mX28_graph mX28_predicate mX28_class0 mX28_version mX75_kind mX75_number mX75_groups mX76_from mX76_to mX77_of mX78_least mX78_of mX80_rank mX80_denies mX80_condition mJ1_modCount mJ2_elementData mJ2_size mJ4_words mJ4_wordsInUse mJ4_sizeIsSticky sa o T g kk a b c nc rk dn wn nr) (hp : ∀ ai' al' iu' rt', rdOK kd an (ai') (al') ar mX27_groups mX27_conditions mX27_rules mX27_sets (rt') mX27_known mX27_asks mX27_done mX27_more mX27_its mX27_allowed mX27_other mX27_order mX28_person mX28_graph mX28_predicate mX28_class0 mX28_version mX75_kind mX75_number mX75_groups mX76_from mX76_to mX77_of mX78_least mX78_of mX80_rank mX80_denies mX80_condition mJ1_modCount mJ2_elementData mJ2_size mJ4_words (iu') mJ4_sizeIsSticky sa o T g kk a b c nc rk dn wn nr → post (rdWithin g kk a b c nc x y) kd an ai' al' rt' mJ4_words iu' mJ4_sizeIsSticky) : wpRD_X27_within MC MS post kd an ai al ar mX27_conditions mX27_sets mX27_right mX27_known mX27_asks mX27_more mX28_person mX28_graph mX28_predicate mX28_class0 mX28_version mX75_kind mX75_number mX75_groups mX76_from mX76_to mX77_of mX78_least mX78_of mJ2_elementData mJ2_size mJ4_words mJ4_wordsInUse mJ4_sizeIsSticky o x y := by
  obtain ⟨A, gi, e0, f0, e1, f1, e2, D, B, rfl, S, hB, hT, hM, hE⟩ := id H
  have zz : (0 ≤ MC ∧ 0 ≤ MS) := ⟨Nat.zero_le _, Nat.zero_le _⟩
  have hC := S.2.2.1.1.1
  unfold wpRD_X27_within
  unfold rdWithin at hp
  refine ⟨zz, CRD_isCond S (fun x0 x1 => ⟨zz, CRD_isCond S (fun y0 y1 => ⟨0, 0, zz, ?_⟩) (fun z => ⟨zz.1, zz.2, ?_⟩)⟩) (fun z => ⟨zz.1, zz.2, ?_⟩)⟩
  · rw [if_pos ⟨⟨x0, x1⟩, y0, y1⟩] at hp
    refine CRD_setOf S hB hT ⟨x0, x1⟩ (fun f5 al5 iu5 rt5 B5 hB5 hT5 hs5 hr5 _ => ⟨0, 0, zz, ?_⟩)
    have S5 : rdS0 kd an (va_up ai (A 3 0) f5) al5 ar mX27_groups mX27_conditions mX27_rules mX27_sets rt5 mX27_known mX27_asks mX27_done mX27_more mX27_its mX27_allowed mX27_other mX27_order mX28_person mX28_graph mX28_predicate mX28_class0 mX28_version mX75_kind mX75_number mX75_groups mX76_from mX76_to mX77_of mX78_least mX78_of mX80_rank mX80_denies mX80_condition mJ1_modCount mJ2_elementData mJ2_size mJ4_words iu5 mJ4_sizeIsSticky sa A gi g kk a b c nc rk dn wn nr e0 f0 e1 f1 e2 D := S.ai3 f5
    refine CRD_setOf S5 hB5 hT5 ⟨y0, y1⟩ (fun f6 al6 iu6 rt6 B6 hB6 hT6 hs6 hr6 _ => ⟨0, 0, zz, ?_⟩)
    rw [va_up_up, S.2.1.2.2.2.1]
    refine CRD_put S.1 hB6 ⟨by decide, by omega⟩ ⟨by omega, by omega⟩ ⟨by omega, by omega⟩ (by omega) (by omega) (fun al7 iu7 B7 hB7 u7 v7 _ => kOn_some ⟨S.k 6 1 (by decide) (by show (1 : Int) < 5 + nc; omega), zz, ?_⟩)
    have OK7 : rdOK kd an (va_up ai (A 3 0) f6) al7 ar mX27_groups mX27_conditions mX27_rules mX27_sets rt6 mX27_known mX27_asks mX27_done mX27_more mX27_its mX27_allowed mX27_other mX27_order mX28_person mX28_graph mX28_predicate mX28_class0 mX28_version mX75_kind mX75_number mX75_groups mX76_from mX76_to mX77_of mX78_least mX78_of mX80_rank mX80_denies mX80_condition mJ1_modCount mJ2_elementData mJ2_size mJ4_words iu7 mJ4_sizeIsSticky sa (A 0 0) T g kk a b c nc rk dn wn nr := ⟨A, gi, e0, f0, e1, f1, e2, D, B7, rfl, S.ai3 f6, hB7, ⟨hT6.1, fun k k0 k1 q q0 q1 => by rw [u7 _ (by omega)]; exact hT6.2 k k0 k1 q q0 q1⟩, hM, hE⟩
    have hx : ∀ q, 0 ≤ q → q < 6144 → (B7 1 q ↔ rdHq g kk a b c x q ∧ ¬ rdHq g kk a b c y q) := fun q q0 q1 => by rw [v7, hT6.2 x x0 (by have := hr5.1; have := hr6.2; omega) q q0 q1, hT6.2 y y0 hr6.1 q q0 q1]
    have := hp _ _ _ _ OK7
    refine CRD_bempty hB7 (by decide) (by omega) (fun w => ⟨fun z => absurd z (by decide), fun _ => ⟨zz.1, zz.2, ?_⟩⟩) (fun w => ⟨fun _ => ⟨zz.1, zz.2, ?_⟩, fun z => absurd rfl z⟩)
    · rw [pif_t (fun q q0 q1 h1 => Classical.byContradiction (fun h2 => w q q0 q1 ((hx q q0 q1).mpr ⟨h1, h2⟩)))] at this
      exact this
    · rw [pif_f (fun w2 => w (fun q q0 q1 h1 => ((hx q q0 q1).mp h1).2 (w2 q q0 q1 ((hx q q0 q1).mp h1).1)))] at this
      exact this
  · rw [if_neg (fun w => z w.2)] at hp
    exact hp _ _ _ _ H
  · rw [if_neg (fun w => z w.1)] at hp
    exact hp _ _ _ _ H
end
