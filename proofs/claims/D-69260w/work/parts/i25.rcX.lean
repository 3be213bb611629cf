/-! RuleEngine (room RE): facts; what is told -/
theorem rzCi_t {hd kd fo ln pt : Int → Int} {n : Int} : rzCi hd kd fo ln pt n < 16 := by
  unfold rzCi reCi
  split
  · assumption
  · decide
section
variable {kd : Nat → Nat} {an : Nat → Nat} {ai : Nat → Int → Int} {al : Nat → Int → Int} {ar : Nat → Int → Option Nat} {mX35_said : Nat → Option Nat} {mX35_rules : Nat → Option Nat} {mX35_strata : Nat → Option Nat} {mX35_needs : Nat → Option Nat} {mX35_safe : Nat → Option Nat} {mX35_circle : Nat → Int} {mX35_known : Nat → Int} {mX35_holds : Nat → Option Nat} {mX35_rounds : Nat → Option Nat} {mX35_counts : Nat → Option Nat} {mX35_roundCount : Nat → Int} {mX35_last : Nat → Option Nat} {mX35_next : Nat → Option Nat} {mX35_values : Nat → Option Nat} {mX35_coming : Nat → Option Nat} {mX35_counting : Nat → Option Nat} {mX35_gathering : Nat → Option Nat} {mX35_together : Nat → Option Nat} {mX35_held : Nat → Option Nat} {mX35_work : Nat → Int} {mX35_large : Nat → Int} {mX83_head : Nat → Option Nat} {mX83_parts : Nat → Option Nat} {mX83_kind : Nat → Int} {mX83_variable : Nat → Int} {mX84_sort : Nat → Int} {mX84_name : Nat → Int} {mX84_x : Nat → Int} {mX84_y : Nat → Int} {mJ1_modCount : Nat → Int} {mJ2_elementData : Nat → Option Nat} {mJ2_size : Nat → Int} {mJ4_words : Nat → Option Nat} {mJ4_wordsInUse : Nat → Int} {mJ4_sizeIsSticky : Nat → Int} {sa : Nat → Nat} {A : Nat → Int → Nat} {hd ki fo ln pt sd st rn gv : Int → Int} {n r k v c s : Int} {e0 : Nat} {W : Int → Nat} {Lq : Int → Int} {Pq : Int → Int → Prop} {MC MS : Nat} {F H_ Li Ro : Int → Nat} {Pa : Int → Int → Nat} {G : Nat → Nat × Int} {L0 : Int → Int} {P0 : Int → Int → Prop} {ai0 : Nat → Int → Int} {ne la fr : Int}
variable {mb l0 : Int}
theorem CRE_change {post : Int → (Nat → Nat) → (Nat → Nat) → (Nat → Int → Int) → (Nat → Int) → (Nat → Option Nat) → (Nat → Int) → (Nat → Int) → Prop} {to : Int} (hMC : to = 1 → reG l0 (c / 64 + 1) - l0 ≤ MC) (hMS : to = 1 → 2 * (reG l0 (c / 64 + 1) - l0) ≤ MS) (Rm : rxRm kd an ai al ar mX35_said mX35_rules mX35_strata mX35_needs mX35_safe mX35_circle mX35_known mX35_holds mX35_rounds mX35_counts mX35_roundCount mX35_last mX35_next mX35_values mX35_coming mX35_counting mX35_gathering mX35_together mX35_held mX35_work mX35_large mX83_head mX83_parts mX83_kind mX83_variable mX84_sort mX84_name mX84_x mX84_y mJ1_modCount mJ2_elementData mJ2_size mJ4_words mJ4_wordsInUse mJ4_sizeIsSticky (sa 0) A G l0 mb sd hd ki fo ln pt n) (hc : 0 ≤ c ∧ c < 16384) (hto : to = 0 ∨ to = 1) (hp0 : (¬ sd c = 0 ↔ to = 1) → post 0 kd an al mX35_known mJ4_words mJ4_wordsInUse mJ4_sizeIsSticky)
  (hp1 : (¬ sd c = 0 ↔ to = 0) → ∀ kd9 an9 al9 kn9 wd9 iu9 sk9, rxRm kd9 an9 ai al9 ar mX35_said mX35_rules mX35_strata mX35_needs mX35_safe mX35_circle kn9 mX35_holds mX35_rounds mX35_counts mX35_roundCount mX35_last mX35_next mX35_values mX35_coming mX35_counting mX35_gathering mX35_together mX35_held mX35_work mX35_large mX83_head mX83_parts mX83_kind mX83_variable mX84_sort mX84_name mX84_x mX84_y mJ1_modCount mJ2_elementData mJ2_size wd9 iu9 sk9 (sa 0) A G (if to = 1 then reG l0 (c / 64 + 1) else l0) mb (updI sd c to) hd ki fo ln pt n → post 1 kd9 an9 al9 kn9 wd9 iu9 sk9) : wpRE_X35_change MC MS post kd an al mX35_said mX35_known mJ4_words mJ4_wordsInUse mJ4_sizeIsSticky (A 0 0) c to := by
  obtain ⟨⟨H, rF⟩, ⟨e0, F, H_, Li, Ro, Pa, R, mo⟩, la, ne, W, L, P, hne, eL, ⟨rL, rN⟩, B, p0, told⟩ := Rm
  obtain ⟨⟨rSd, rH, rR⟩, _⟩ := id rF
  have k0 : kd (A 1 0) = 8 := rx_kd H 1 0 (by decide) (by decide)
  have b0 := B.1 0 (by decide) (by decide)
  have gb := reG_b b0.2.1 (u := c / 64 + 1) (by omega)
  have l00 := b0.2.1
  have q0 : P 0 c ↔ ¬ sd c = 0 := by
    rw [p0]
    exact ⟨fun z => z.2, fun z => ⟨hc, z⟩⟩
  have set : ¬ (P 0 c ↔ to = 1) → ∃ mc_12 ms_13 : Nat, (0 + mc_12 ≤ MC ∧ 0 + ms_13 ≤ MS) ∧ wpRE_J4_set mc_12 ms_13 (fun kd_6 an_7 al_8 mJ4_words_9 mJ4_wordsInUse_10 mJ4_sizeIsSticky_11 => kLe kd an kd_6 an_7 → (∀ mX35_known_16 : Nat → Int, mX35_known_16 = va_up mX35_known (A 0 0) 0 → (((0 + mc_12) ≤ MC ∧ (0 + ms_13) ≤ MS ∧ post 1 kd_6 an_7 al_8 mX35_known_16 mJ4_words_9 mJ4_wordsInUse_10 mJ4_sizeIsSticky_11)))) kd an al mJ4_words mJ4_wordsInUse mJ4_sizeIsSticky (A 1 0) c to := fun hno => by
    refine ⟨MC, MS, ⟨by omega, by omega⟩, ?_⟩
    unfold wpRE_J4_set
    rcases hto with e | e
    · subst e
      have iff0 : ¬ sd c = 0 ↔ (0 : Int) = 0 := ⟨fun _ => rfl, fun _ => Classical.byContradiction (fun y => hno ⟨fun p => absurd (q0.1 p) y, fun w => absurd w (by decide)⟩)⟩
      refine ⟨fun _ => ⟨⟨Nat.zero_le _, Nat.zero_le _⟩, CRE_clrG b0 hc.1 hc.2 (fun al9 iu9 Fr N => ⟨Nat.zero_le _, Nat.zero_le _, fun kl kn9 ekn => ⟨by omega, by omega, hp1 iff0 _ _ _ _ _ _ _ ⟨⟨H, rF⟩, ⟨e0, F, H_, Li, Ro, Pa, R, mo⟩, la, ne, _, _, _, hne, (upJ_s.trans eL).trans (if_neg (by decide)).symm, ⟨rL, rN⟩, rxB.up H B (by decide) (by decide) Fr N, ?_, fun z => absurd (by rw [ekn, va_up_self]) z⟩⟩⟩)⟩, fun z => absurd rfl z⟩
      rw [upJ_s, p0]
      refine funext fun r => propext ?_
      unfold reS0
      rw [updI_e]
      by_cases y : r = c
      · rw [if_pos y]; exact ⟨fun w => absurd y w.2, fun w => absurd rfl w.2⟩
      · rw [if_neg y]; exact ⟨fun w => w.1, fun w => ⟨w, y⟩⟩
    · subst e
      have iff1 : ¬ sd c = 0 ↔ (1 : Int) = 0 := ⟨fun y => absurd ⟨fun _ => rfl, fun _ => q0.2 y⟩ hno, fun w => absurd w (by decide)⟩
      have hMC1 := hMC rfl
      have hMS1 := hMS rfl
      refine ⟨fun z => absurd z (by decide), fun _ => ⟨MC, MS, ⟨by omega, by omega⟩, CRE_setG b0 hc.1 hc.2 (by rw [eL]; exact hMC1) (by rw [eL]; exact hMS1) (fun kd9 an9 al9 wd9 iu9 sk9 w9 Fr N kl => ⟨by omega, by omega, fun kl2 kn9 ekn => ⟨by omega, by omega, hp1 iff1 _ _ _ _ _ _ _ ⟨⟨H.kLe Fr.1, rF⟩, ⟨e0, F, H_, Li, Ro, Pa, R.le Fr.1, mo⟩, la, ne, _, _, _, hne, upJ_s.trans ((by rw [eL] : reG (L 0) (c / 64 + 1) = reG l0 (c / 64 + 1)).trans (if_pos rfl).symm), ⟨rL, rN⟩, rxB.up H B (by decide) (by decide) Fr N, ?_, fun z => absurd (by rw [ekn, va_up_self]) z⟩⟩⟩)⟩⟩
      rw [upJ_s, p0]
      refine funext fun r => propext ?_
      unfold reS0
      rw [updI_e]
      by_cases y : r = c
      · rw [if_pos y]; exact ⟨fun _ => ⟨by omega, by decide⟩, fun _ => Or.inr y⟩
      · rw [if_neg y]; exact ⟨fun w => w.resolve_right y, Or.inl⟩
  unfold wpRE_X35_change
  refine kOn_of rSd ⟨k0, ⟨Nat.zero_le _, Nat.zero_le _⟩, CRE_getG b0 hc.1 hc.2 (fun q => ⟨fun z => ⟨Nat.zero_le _, Nat.zero_le _, hp0 ⟨fun _ => z.symm, fun _ => q0.1 q⟩⟩, fun z => set (fun w => z (w.1 q).symm)⟩) (fun q => ⟨fun z => ⟨Nat.zero_le _, Nat.zero_le _, hp0 ⟨fun w => absurd (q0.2 w) q, fun w => absurd (z.trans w) (by decide)⟩⟩, fun z => set (fun w => q (w.2 (hto.resolve_left (fun e => z e.symm))))⟩)⟩
theorem CRE_fact {post : Int → (Nat → Nat) → (Nat → Nat) → (Nat → Int → Int) → (Nat → Int) → (Nat → Option Nat) → (Nat → Int) → (Nat → Int) → Prop} {x a b : Int} (hMC : reG l0 (reCd x a b / 64 + 1) - l0 ≤ MC) (hMS : 2 * (reG l0 (reCd x a b / 64 + 1) - l0) ≤ MS) (Rm : rxRm kd an ai al ar mX35_said mX35_rules mX35_strata mX35_needs mX35_safe mX35_circle mX35_known mX35_holds mX35_rounds mX35_counts mX35_roundCount mX35_last mX35_next mX35_values mX35_coming mX35_counting mX35_gathering mX35_together mX35_held mX35_work mX35_large mX83_head mX83_parts mX83_kind mX83_variable mX84_sort mX84_name mX84_x mX84_y mJ1_modCount mJ2_elementData mJ2_size mJ4_words mJ4_wordsInUse mJ4_sizeIsSticky (sa 0) A G l0 mb sd hd ki fo ln pt n) (h1 : ¬ reFc x a b → post (-1) kd an al mX35_known mJ4_words mJ4_wordsInUse mJ4_sizeIsSticky) (h2 : reFc x a b → ¬ sd (reCd x a b) = 0 → post 0 kd an al mX35_known mJ4_words mJ4_wordsInUse mJ4_sizeIsSticky)
  (h3 : reFc x a b → sd (reCd x a b) = 0 → ∀ kd9 an9 al9 kn9 wd9 iu9 sk9, rxRm kd9 an9 ai al9 ar mX35_said mX35_rules mX35_strata mX35_needs mX35_safe mX35_circle kn9 mX35_holds mX35_rounds mX35_counts mX35_roundCount mX35_last mX35_next mX35_values mX35_coming mX35_counting mX35_gathering mX35_together mX35_held mX35_work mX35_large mX83_head mX83_parts mX83_kind mX83_variable mX84_sort mX84_name mX84_x mX84_y mJ1_modCount mJ2_elementData mJ2_size wd9 iu9 sk9 (sa 0) A G (reG l0 (reCd x a b / 64 + 1)) mb (updI sd (reCd x a b) 1) hd ki fo ln pt n → post 1 kd9 an9 al9 kn9 wd9 iu9 sk9) : wpRE_X35_fact MC MS post kd an al mX35_said mX35_known mJ4_words mJ4_wordsInUse mJ4_sizeIsSticky (A 0 0) x a b := by
  unfold wpRE_X35_fact
  exact ⟨⟨Nat.zero_le _, Nat.zero_le _⟩, CRE_isFact (fun f => ⟨fun z => absurd z (by decide), fun _ => ⟨⟨Nat.zero_le _, Nat.zero_le _⟩, CRE_code f ⟨MC, MS, ⟨by omega, by omega⟩, CRE_change (fun _ => hMC) (fun _ => hMS) Rm (reCd_b f) (Or.inr rfl) (fun w kl => ⟨by omega, by omega, h2 f (w.2 rfl)⟩) (fun w kd9 an9 al9 kn9 wd9 iu9 sk9 Rm9 kl => ⟨by omega, by omega, h3 f (Classical.byContradiction (fun y => absurd (w.1 y) (by decide))) kd9 an9 al9 kn9 wd9 iu9 sk9 Rm9⟩)⟩⟩⟩) (fun f => ⟨fun _ => ⟨Nat.zero_le _, Nat.zero_le _, h1 f⟩, fun z => absurd rfl z⟩)⟩
theorem CRE_remove {post : Int → (Nat → Nat) → (Nat → Nat) → (Nat → Int → Int) → (Nat → Int) → (Nat → Option Nat) → (Nat → Int) → (Nat → Int) → Prop} {x a b : Int} (Rm : rxRm kd an ai al ar mX35_said mX35_rules mX35_strata mX35_needs mX35_safe mX35_circle mX35_known mX35_holds mX35_rounds mX35_counts mX35_roundCount mX35_last mX35_next mX35_values mX35_coming mX35_counting mX35_gathering mX35_together mX35_held mX35_work mX35_large mX83_head mX83_parts mX83_kind mX83_variable mX84_sort mX84_name mX84_x mX84_y mJ1_modCount mJ2_elementData mJ2_size mJ4_words mJ4_wordsInUse mJ4_sizeIsSticky (sa 0) A G l0 mb sd hd ki fo ln pt n) (h1 : ¬ reFc x a b → post (-1) kd an al mX35_known mJ4_words mJ4_wordsInUse mJ4_sizeIsSticky) (h2 : reFc x a b → sd (reCd x a b) = 0 → post 0 kd an al mX35_known mJ4_words mJ4_wordsInUse mJ4_sizeIsSticky)
  (h3 : reFc x a b → ¬ sd (reCd x a b) = 0 → ∀ kd9 an9 al9 kn9 wd9 iu9 sk9, rxRm kd9 an9 ai al9 ar mX35_said mX35_rules mX35_strata mX35_needs mX35_safe mX35_circle kn9 mX35_holds mX35_rounds mX35_counts mX35_roundCount mX35_last mX35_next mX35_values mX35_coming mX35_counting mX35_gathering mX35_together mX35_held mX35_work mX35_large mX83_head mX83_parts mX83_kind mX83_variable mX84_sort mX84_name mX84_x mX84_y mJ1_modCount mJ2_elementData mJ2_size wd9 iu9 sk9 (sa 0) A G l0 mb (updI sd (reCd x a b) 0) hd ki fo ln pt n → post 1 kd9 an9 al9 kn9 wd9 iu9 sk9) : wpRE_X35_remove MC MS post kd an al mX35_said mX35_known mJ4_words mJ4_wordsInUse mJ4_sizeIsSticky (A 0 0) x a b := by
  unfold wpRE_X35_remove
  exact ⟨⟨Nat.zero_le _, Nat.zero_le _⟩, CRE_isFact (fun f => ⟨fun z => absurd z (by decide), fun _ => ⟨⟨Nat.zero_le _, Nat.zero_le _⟩, CRE_code f ⟨MC, MS, ⟨by omega, by omega⟩, CRE_change (fun z => absurd z (by decide)) (fun z => absurd z (by decide)) Rm (reCd_b f) (Or.inl rfl) (fun w kl => ⟨by omega, by omega, h2 f (Classical.byContradiction (fun y => absurd (w.1 y) (by decide)))⟩) (fun w kd9 an9 al9 kn9 wd9 iu9 sk9 Rm9 kl => ⟨by omega, by omega, h3 f (w.2 rfl) kd9 an9 al9 kn9 wd9 iu9 sk9 Rm9⟩)⟩⟩⟩) (fun f => ⟨fun _ => ⟨Nat.zero_le _, Nat.zero_le _, h1 f⟩, fun z => absurd rfl z⟩)⟩
noncomputable def reRun (sd hd ki fo ln pt : Int → Int) (n : Int) : Int := if rzCi hd ki fo ln pt n < 0 then (if (rzAll sd hd ki fo ln pt n).2.2.2 = 0 then (rzAll sd hd ki fo ln pt n).2.2.1 else -4) else -10 - rzCi hd ki fo ln pt n
noncomputable def reStr (hd ki fo ln pt : Int → Int) (n x : Int) : Int := if 0 ≤ x ∧ x < 16 then (if rzCi hd ki fo ln pt n < 0 then rzSt hd ki fo ln pt n x else -2) else -1
noncomputable def reHol (sd hd ki fo ln pt : Int → Int) (n x a b : Int) : Int := pif (reFc x a b) (if ¬ sd (reCd x a b) = 0 then 1 else if 0 ≤ (rzAll sd hd ki fo ln pt n).1 (reCd x a b) then 2 else 0) (-1)
noncomputable def reRou (sd hd ki fo ln pt : Int → Int) (n x a b : Int) : Int := pif (reFc x a b) (if (rzAll sd hd ki fo ln pt n).1 (reCd x a b) < 0 then -2 else (rzAll sd hd ki fo ln pt n).1 (reCd x a b)) (-1)
noncomputable def reCou (sd hd ki fo ln pt : Int → Int) (n x a b : Int) : Int := pif (reFc x a b) ((rzAll sd hd ki fo ln pt n).2.1 (reCd x a b)) (-1)
noncomputable def reRow (sd hd ki fo ln pt : Int → Int) (n x : Int) : Int := if x < 16384 then reRw (rzAll sd hd ki fo ln pt n).1 (if 0 ≤ x then x + 1 else 0) else -2
noncomputable def reSiz (sd hd ki fo ln pt : Int → Int) (n : Int) : Int := cntI (fun c => 0 ≤ (rzAll sd hd ki fo ln pt n).1 c) 16384
theorem rzLg_0 : rzCi hd ki fo ln pt n < 0 ∨ (rzAll sd hd ki fo ln pt n).2.2.2 = 0 := by
  rcases rzCi_b (hd := hd) (kd := ki) (fo := fo) (ln := ln) (pt := pt) (n := n) with h | h
  · rw [rz_ci h]; exact Or.inr rfl
  · exact Or.inl (by omega)
theorem CRE_run {post : Int → (Nat → Nat) → (Nat → Nat) → (Nat → Int → Int) → (Nat → Int → Int) → (Nat → Int) → (Nat → Int) → (Nat → Int) → (Nat → Option Nat) → (Nat → Option Nat) → (Nat → Int) → (Nat → Int) → (Nat → Option Nat) → (Nat → Int) → (Nat → Int) → Prop} (hMC : mX35_known (A 0 0) = 0 → 2550 ≤ MC) (hMS : mX35_known (A 0 0) = 0 → 5100 ≤ MS) (I : reI hd ki fo ln pt n) (Rm : rxRm kd an ai al ar mX35_said mX35_rules mX35_strata mX35_needs mX35_safe mX35_circle mX35_known mX35_holds mX35_rounds mX35_counts mX35_roundCount mX35_last mX35_next mX35_values mX35_coming mX35_counting mX35_gathering mX35_together mX35_held mX35_work mX35_large mX83_head mX83_parts mX83_kind mX83_variable mX84_sort mX84_name mX84_x mX84_y mJ1_modCount mJ2_elementData mJ2_size mJ4_words mJ4_wordsInUse mJ4_sizeIsSticky (sa 0) A G l0 mb sd hd ki fo ln pt n) (hp : ∀ kd9 an9 ai9 al9 ci9 kn9 rc9 la9 ne9 wo9 lg9 wd9 iu9 sk9, rxRm kd9 an9 ai9 al9 ar mX35_said mX35_rules mX35_strata mX35_needs mX35_safe ci9 kn9 mX35_holds mX35_rounds mX35_counts rc9 la9 ne9 mX35_values mX35_coming mX35_counting mX35_gathering mX35_together mX35_held wo9 lg9 mX83_head mX83_parts mX83_kind mX83_variable mX84_sort mX84_name mX84_x mX84_y mJ1_modCount mJ2_elementData mJ2_size wd9 iu9 sk9 (sa 0) A G l0 mb sd hd ki fo ln pt n → ¬ kn9 (A 0 0) = 0 → post (reRun sd hd ki fo ln pt n) kd9 an9 ai9 al9 ci9 kn9 rc9 la9 ne9 wo9 lg9 wd9 iu9 sk9) : wpRE_X35_run MC MS post kd an ai al ar mX35_said mX35_rules mX35_strata mX35_needs mX35_safe mX35_circle mX35_known mX35_holds mX35_rounds mX35_counts mX35_roundCount mX35_last mX35_next mX35_values mX35_coming mX35_counting mX35_gathering mX35_together mX35_held mX35_work mX35_large mX83_head mX83_parts mX83_kind mX83_variable mX84_sort mX84_name mX84_x mX84_y mJ2_elementData mJ2_size mJ4_words mJ4_wordsInUse mJ4_sizeIsSticky (A 0 0) := by
  unfold wpRE_X35_run
  refine ⟨MC, MS, ⟨by omega, by omega⟩, CRE_find hMC hMS I Rm (fun kd9 an9 ai9 al9 ci9 kn9 rc9 la9 ne9 wo9 lg9 wd9 iu9 sk9 Rm9 kz kl => ?_)⟩
  have G := hp kd9 an9 ai9 al9 ci9 kn9 rc9 la9 ne9 wo9 lg9 wd9 iu9 sk9 Rm9 kz
  have Rm9' := Rm9
  obtain ⟨⟨H, rF⟩, ⟨e0, F, H_, Li, Ro, Pa, R, mo⟩, la, ne, W, L, P, hne, eL, ⟨rL, rN⟩, B, p0, told⟩ := Rm9
  obtain ⟨⟨rSd, rH, rR⟩, ⟨rT, rNd, rHd, rS⟩, ⟨rRd, rCt, rV, rTg⟩, rC, rCo, rG⟩ := rF
  obtain ⟨t1, t2, t3, t4, t5, t6, t7⟩ := told kz
  unfold reRun at G
  have cb := rzCi_b (hd := hd) (kd := ki) (fo := fo) (ln := ln) (pt := pt) (n := n)
  have ct := rzCi_t (hd := hd) (kd := ki) (fo := fo) (ln := ln) (pt := pt) (n := n)
  have l0 := rzLg_0 (sd := sd) (hd := hd) (ki := ki) (fo := fo) (ln := ln) (pt := pt) (n := n)
  rw [t6, t5]
  refine ⟨fun z => ⟨fun y => ⟨by omega, by omega, ?_⟩, fun y => ⟨by omega, by omega, by omega, ?_⟩⟩, fun z => ⟨by omega, by omega, ?_⟩⟩
  · rw [if_pos (by omega), if_pos z] at G
    rw [t7 z]; exact G
  · rw [if_neg (by omega)] at G; exact G
  · rw [if_pos (l0.resolve_right z), if_neg z] at G; exact G
theorem CRE_stratum {post : Int → (Nat → Nat) → (Nat → Nat) → (Nat → Int → Int) → (Nat → Int → Int) → (Nat → Int) → (Nat → Int) → (Nat → Int) → (Nat → Option Nat) → (Nat → Option Nat) → (Nat → Int) → (Nat → Int) → (Nat → Option Nat) → (Nat → Int) → (Nat → Int) → Prop} {x : Int} (hMC : mX35_known (A 0 0) = 0 → 2550 ≤ MC) (hMS : mX35_known (A 0 0) = 0 → 5100 ≤ MS) (I : reI hd ki fo ln pt n) (Rm : rxRm kd an ai al ar mX35_said mX35_rules mX35_strata mX35_needs mX35_safe mX35_circle mX35_known mX35_holds mX35_rounds mX35_counts mX35_roundCount mX35_last mX35_next mX35_values mX35_coming mX35_counting mX35_gathering mX35_together mX35_held mX35_work mX35_large mX83_head mX83_parts mX83_kind mX83_variable mX84_sort mX84_name mX84_x mX84_y mJ1_modCount mJ2_elementData mJ2_size mJ4_words mJ4_wordsInUse mJ4_sizeIsSticky (sa 0) A G l0 mb sd hd ki fo ln pt n) (h1 : ¬ (0 ≤ x ∧ x < 16) → post (-1) kd an ai al mX35_circle mX35_known mX35_roundCount mX35_last mX35_next mX35_work mX35_large mJ4_words mJ4_wordsInUse mJ4_sizeIsSticky) (hp : (0 ≤ x ∧ x < 16) → ∀ kd9 an9 ai9 al9 ci9 kn9 rc9 la9 ne9 wo9 lg9 wd9 iu9 sk9, rxRm kd9 an9 ai9 al9 ar mX35_said mX35_rules mX35_strata mX35_needs mX35_safe ci9 kn9 mX35_holds mX35_rounds mX35_counts rc9 la9 ne9 mX35_values mX35_coming mX35_counting mX35_gathering mX35_together mX35_held wo9 lg9 mX83_head mX83_parts mX83_kind mX83_variable mX84_sort mX84_name mX84_x mX84_y mJ1_modCount mJ2_elementData mJ2_size wd9 iu9 sk9 (sa 0) A G l0 mb sd hd ki fo ln pt n → ¬ kn9 (A 0 0) = 0 → post (reStr hd ki fo ln pt n x) kd9 an9 ai9 al9 ci9 kn9 rc9 la9 ne9 wo9 lg9 wd9 iu9 sk9) : wpRE_X35_stratum MC MS post kd an ai al ar mX35_said mX35_rules mX35_strata mX35_needs mX35_safe mX35_circle mX35_known mX35_holds mX35_rounds mX35_counts mX35_roundCount mX35_last mX35_next mX35_values mX35_coming mX35_counting mX35_gathering mX35_together mX35_held mX35_work mX35_large mX83_head mX83_parts mX83_kind mX83_variable mX84_sort mX84_name mX84_x mX84_y mJ2_elementData mJ2_size mJ4_words mJ4_wordsInUse mJ4_sizeIsSticky (A 0 0) x := by
  unfold wpRE_X35_stratum
  refine ⟨⟨Nat.zero_le _, Nat.zero_le _⟩, CRE_isName (fun x0 x1 => ⟨fun z => absurd z (by decide), fun _ => ⟨MC, MS, ⟨by omega, by omega⟩, CRE_find hMC hMS I Rm (fun kd9 an9 ai9 al9 ci9 kn9 rc9 la9 ne9 wo9 lg9 wd9 iu9 sk9 Rm9 kz kl => ?_)⟩⟩) (fun w => ⟨fun _ => ⟨Nat.zero_le _, Nat.zero_le _, h1 w⟩, fun z => absurd rfl z⟩)⟩
  have G := hp ⟨x0, x1⟩ kd9 an9 ai9 al9 ci9 kn9 rc9 la9 ne9 wo9 lg9 wd9 iu9 sk9 Rm9 kz
  have Rm9' := Rm9
  obtain ⟨⟨H, rF⟩, ⟨e0, F, H_, Li, Ro, Pa, R, mo⟩, la, ne, W, L, P, hne, eL, ⟨rL, rN⟩, B, p0, told⟩ := Rm9
  obtain ⟨⟨rSd, rH, rR⟩, ⟨rT, rNd, rHd, rS⟩, ⟨rRd, rCt, rV, rTg⟩, rC, rCo, rG⟩ := rF
  obtain ⟨t1, t2, t3, t4, t5, t6, t7⟩ := told kz
  unfold reStr at G
  rw [if_pos ⟨x0, x1⟩] at G
  have cb := rzCi_b (hd := hd) (kd := ki) (fo := fo) (ln := ln) (pt := pt) (n := n)
  rw [t5]
  refine ⟨fun y => kOn_of rT ⟨rx_kd H 2 0 (by decide) (by decide), by rw [rx_an H 2 0 (by decide) (by decide) (by decide)]; exact ⟨x0, x1⟩, by omega, by omega, ?_⟩, fun y => ⟨by omega, by omega, ?_⟩⟩
  · rw [if_pos (by omega)] at G
    rw [t4 x x0 x1]; exact G
  · rw [if_neg (by omega)] at G; exact G
theorem CRE_holds {post : Int → (Nat → Nat) → (Nat → Nat) → (Nat → Int → Int) → (Nat → Int → Int) → (Nat → Int) → (Nat → Int) → (Nat → Int) → (Nat → Option Nat) → (Nat → Option Nat) → (Nat → Int) → (Nat → Int) → (Nat → Option Nat) → (Nat → Int) → (Nat → Int) → Prop} {x a b : Int} (hMC : mX35_known (A 0 0) = 0 → 2550 ≤ MC) (hMS : mX35_known (A 0 0) = 0 → 5100 ≤ MS) (I : reI hd ki fo ln pt n) (Rm : rxRm kd an ai al ar mX35_said mX35_rules mX35_strata mX35_needs mX35_safe mX35_circle mX35_known mX35_holds mX35_rounds mX35_counts mX35_roundCount mX35_last mX35_next mX35_values mX35_coming mX35_counting mX35_gathering mX35_together mX35_held mX35_work mX35_large mX83_head mX83_parts mX83_kind mX83_variable mX84_sort mX84_name mX84_x mX84_y mJ1_modCount mJ2_elementData mJ2_size mJ4_words mJ4_wordsInUse mJ4_sizeIsSticky (sa 0) A G l0 mb sd hd ki fo ln pt n) (h1 : ¬ reFc x a b → post (-1) kd an ai al mX35_circle mX35_known mX35_roundCount mX35_last mX35_next mX35_work mX35_large mJ4_words mJ4_wordsInUse mJ4_sizeIsSticky) (hp : reFc x a b → ∀ kd9 an9 ai9 al9 ci9 kn9 rc9 la9 ne9 wo9 lg9 wd9 iu9 sk9, rxRm kd9 an9 ai9 al9 ar mX35_said mX35_rules mX35_strata mX35_needs mX35_safe ci9 kn9 mX35_holds mX35_rounds mX35_counts rc9 la9 ne9 mX35_values mX35_coming mX35_counting mX35_gathering mX35_together mX35_held wo9 lg9 mX83_head mX83_parts mX83_kind mX83_variable mX84_sort mX84_name mX84_x mX84_y mJ1_modCount mJ2_elementData mJ2_size wd9 iu9 sk9 (sa 0) A G l0 mb sd hd ki fo ln pt n → ¬ kn9 (A 0 0) = 0 → post (reHol sd hd ki fo ln pt n x a b) kd9 an9 ai9 al9 ci9 kn9 rc9 la9 ne9 wo9 lg9 wd9 iu9 sk9) : wpRE_X35_holds MC MS post kd an ai al ar mX35_said mX35_rules mX35_strata mX35_needs mX35_safe mX35_circle mX35_known mX35_holds mX35_rounds mX35_counts mX35_roundCount mX35_last mX35_next mX35_values mX35_coming mX35_counting mX35_gathering mX35_together mX35_held mX35_work mX35_large mX83_head mX83_parts mX83_kind mX83_variable mX84_sort mX84_name mX84_x mX84_y mJ2_elementData mJ2_size mJ4_words mJ4_wordsInUse mJ4_sizeIsSticky (A 0 0) x a b := by
  unfold wpRE_X35_holds
  refine ⟨⟨Nat.zero_le _, Nat.zero_le _⟩, CRE_isFact (fun f => ⟨fun z => absurd z (by decide), fun _ => ⟨MC, MS, ⟨by omega, by omega⟩, CRE_find hMC hMS I Rm (fun kd9 an9 ai9 al9 ci9 kn9 rc9 la9 ne9 wo9 lg9 wd9 iu9 sk9 Rm9 kz kl => ?_)⟩⟩) (fun w => ⟨fun _ => ⟨Nat.zero_le _, Nat.zero_le _, h1 w⟩, fun z => absurd rfl z⟩)⟩
  have G := hp f kd9 an9 ai9 al9 ci9 kn9 rc9 la9 ne9 wo9 lg9 wd9 iu9 sk9 Rm9 kz
  have Rm9' := Rm9
  obtain ⟨⟨H, rF⟩, ⟨e0, F, H_, Li, Ro, Pa, R, mo⟩, la, ne, W, L, P, hne, eL, ⟨rL, rN⟩, B, p0, told⟩ := Rm9
  obtain ⟨⟨rSd, rH, rR⟩, ⟨rT, rNd, rHd, rS⟩, ⟨rRd, rCt, rV, rTg⟩, rC, rCo, rG⟩ := rF
  obtain ⟨t1, t2, t3, t4, t5, t6, t7⟩ := told kz
  unfold reHol at G
  rw [pif_t f] at G
  have cd := reCd_b f
  have b0 := B.1 0 (by decide) (by decide)
  have b1 := B.1 1 (by decide) (by decide)
  refine ⟨⟨by omega, by omega⟩, CRE_code f (kOn_of rSd ⟨rx_kd H 1 0 (by decide) (by decide), ⟨by omega, by omega⟩, CRE_getG b0 cd.1 cd.2 (fun q => ⟨fun z => absurd z (by decide), fun _ => ⟨by omega, by omega, ?_⟩⟩) (fun q => ⟨fun _ => kOn_of rH ⟨rx_kd H 1 1 (by decide) (by decide), ⟨by omega, by omega⟩, CRE_getG b1 cd.1 cd.2 (fun q1 => ⟨fun z => absurd z (by decide), fun _ => ⟨by omega, by omega, ?_⟩⟩) (fun q1 => ⟨fun _ => ⟨by omega, by omega, ?_⟩, fun z => absurd rfl z⟩)⟩, fun z => absurd rfl z⟩)⟩)⟩
  · rw [p0] at q
    rw [if_pos q.2] at G; exact G
  · rw [p0] at q
    rw [t1] at q1
    rw [if_neg (fun w => q ⟨cd, w⟩), if_pos q1.2] at G; exact G
  · rw [p0] at q
    rw [t1] at q1
    rw [if_neg (fun w => q ⟨cd, w⟩), if_neg (fun w => q1 ⟨cd, w⟩)] at G; exact G
theorem CRE_round {post : Int → (Nat → Nat) → (Nat → Nat) → (Nat → Int → Int) → (Nat → Int → Int) → (Nat → Int) → (Nat → Int) → (Nat → Int) → (Nat → Option Nat) → (Nat → Option Nat) → (Nat → Int) → (Nat → Int) → (Nat → Option Nat) → (Nat → Int) → (Nat → Int) → Prop} {x a b : Int} (hMC : mX35_known (A 0 0) = 0 → 2550 ≤ MC) (hMS : mX35_known (A 0 0) = 0 → 5100 ≤ MS) (I : reI hd ki fo ln pt n) (Rm : rxRm kd an ai al ar mX35_said mX35_rules mX35_strata mX35_needs mX35_safe mX35_circle mX35_known mX35_holds mX35_rounds mX35_counts mX35_roundCount mX35_last mX35_next mX35_values mX35_coming mX35_counting mX35_gathering mX35_together mX35_held mX35_work mX35_large mX83_head mX83_parts mX83_kind mX83_variable mX84_sort mX84_name mX84_x mX84_y mJ1_modCount mJ2_elementData mJ2_size mJ4_words mJ4_wordsInUse mJ4_sizeIsSticky (sa 0) A G l0 mb sd hd ki fo ln pt n) (h1 : ¬ reFc x a b → post (-1) kd an ai al mX35_circle mX35_known mX35_roundCount mX35_last mX35_next mX35_work mX35_large mJ4_words mJ4_wordsInUse mJ4_sizeIsSticky) (hp : reFc x a b → ∀ kd9 an9 ai9 al9 ci9 kn9 rc9 la9 ne9 wo9 lg9 wd9 iu9 sk9, rxRm kd9 an9 ai9 al9 ar mX35_said mX35_rules mX35_strata mX35_needs mX35_safe ci9 kn9 mX35_holds mX35_rounds mX35_counts rc9 la9 ne9 mX35_values mX35_coming mX35_counting mX35_gathering mX35_together mX35_held wo9 lg9 mX83_head mX83_parts mX83_kind mX83_variable mX84_sort mX84_name mX84_x mX84_y mJ1_modCount mJ2_elementData mJ2_size wd9 iu9 sk9 (sa 0) A G l0 mb sd hd ki fo ln pt n → ¬ kn9 (A 0 0) = 0 → post (reRou sd hd ki fo ln pt n x a b) kd9 an9 ai9 al9 ci9 kn9 rc9 la9 ne9 wo9 lg9 wd9 iu9 sk9) : wpRE_X35_round MC MS post kd an ai al ar mX35_said mX35_rules mX35_strata mX35_needs mX35_safe mX35_circle mX35_known mX35_holds mX35_rounds mX35_counts mX35_roundCount mX35_last mX35_next mX35_values mX35_coming mX35_counting mX35_gathering mX35_together mX35_held mX35_work mX35_large mX83_head mX83_parts mX83_kind mX83_variable mX84_sort mX84_name mX84_x mX84_y mJ2_elementData mJ2_size mJ4_words mJ4_wordsInUse mJ4_sizeIsSticky (A 0 0) x a b := by
  unfold wpRE_X35_round
  refine ⟨⟨Nat.zero_le _, Nat.zero_le _⟩, CRE_isFact (fun f => ⟨fun z => absurd z (by decide), fun _ => ⟨MC, MS, ⟨by omega, by omega⟩, CRE_find hMC hMS I Rm (fun kd9 an9 ai9 al9 ci9 kn9 rc9 la9 ne9 wo9 lg9 wd9 iu9 sk9 Rm9 kz kl => ?_)⟩⟩) (fun w => ⟨fun _ => ⟨Nat.zero_le _, Nat.zero_le _, h1 w⟩, fun z => absurd rfl z⟩)⟩
  have G := hp f kd9 an9 ai9 al9 ci9 kn9 rc9 la9 ne9 wo9 lg9 wd9 iu9 sk9 Rm9 kz
  have Rm9' := Rm9
  obtain ⟨⟨H, rF⟩, ⟨e0, F, H_, Li, Ro, Pa, R, mo⟩, la, ne, W, L, P, hne, eL, ⟨rL, rN⟩, B, p0, told⟩ := Rm9
  obtain ⟨⟨rSd, rH, rR⟩, ⟨rT, rNd, rHd, rS⟩, ⟨rRd, rCt, rV, rTg⟩, rC, rCo, rG⟩ := rF
  obtain ⟨t1, t2, t3, t4, t5, t6, t7⟩ := told kz
  unfold reRou at G
  rw [pif_t f] at G
  have cd := reCd_b f
  rw [← t2 _ cd.1 cd.2] at G
  exact ⟨⟨by omega, by omega⟩, CRE_code f (kOn_of rRd ⟨rx_kd H 4 0 (by decide) (by decide), by rw [rx_an H 4 0 (by decide) (by decide) (by decide)]; exact cd, by omega, by omega, G⟩)⟩
theorem CRE_counts {post : Int → (Nat → Nat) → (Nat → Nat) → (Nat → Int → Int) → (Nat → Int → Int) → (Nat → Int) → (Nat → Int) → (Nat → Int) → (Nat → Option Nat) → (Nat → Option Nat) → (Nat → Int) → (Nat → Int) → (Nat → Option Nat) → (Nat → Int) → (Nat → Int) → Prop} {x a b : Int} (hMC : mX35_known (A 0 0) = 0 → 2550 ≤ MC) (hMS : mX35_known (A 0 0) = 0 → 5100 ≤ MS) (I : reI hd ki fo ln pt n) (Rm : rxRm kd an ai al ar mX35_said mX35_rules mX35_strata mX35_needs mX35_safe mX35_circle mX35_known mX35_holds mX35_rounds mX35_counts mX35_roundCount mX35_last mX35_next mX35_values mX35_coming mX35_counting mX35_gathering mX35_together mX35_held mX35_work mX35_large mX83_head mX83_parts mX83_kind mX83_variable mX84_sort mX84_name mX84_x mX84_y mJ1_modCount mJ2_elementData mJ2_size mJ4_words mJ4_wordsInUse mJ4_sizeIsSticky (sa 0) A G l0 mb sd hd ki fo ln pt n) (h1 : ¬ reFc x a b → post (-1) kd an ai al mX35_circle mX35_known mX35_roundCount mX35_last mX35_next mX35_work mX35_large mJ4_words mJ4_wordsInUse mJ4_sizeIsSticky) (hp : reFc x a b → ∀ kd9 an9 ai9 al9 ci9 kn9 rc9 la9 ne9 wo9 lg9 wd9 iu9 sk9, rxRm kd9 an9 ai9 al9 ar mX35_said mX35_rules mX35_strata mX35_needs mX35_safe ci9 kn9 mX35_holds mX35_rounds mX35_counts rc9 la9 ne9 mX35_values mX35_coming mX35_counting mX35_gathering mX35_together mX35_held wo9 lg9 mX83_head mX83_parts mX83_kind mX83_variable mX84_sort mX84_name mX84_x mX84_y mJ1_modCount mJ2_elementData mJ2_size wd9 iu9 sk9 (sa 0) A G l0 mb sd hd ki fo ln pt n → ¬ kn9 (A 0 0) = 0 → post (reCou sd hd ki fo ln pt n x a b) kd9 an9 ai9 al9 ci9 kn9 rc9 la9 ne9 wo9 lg9 wd9 iu9 sk9) : wpRE_X35_counts MC MS post kd an ai al ar mX35_said mX35_rules mX35_strata mX35_needs mX35_safe mX35_circle mX35_known mX35_holds mX35_rounds mX35_counts mX35_roundCount mX35_last mX35_next mX35_values mX35_coming mX35_counting mX35_gathering mX35_together mX35_held mX35_work mX35_large mX83_head mX83_parts mX83_kind mX83_variable mX84_sort mX84_name mX84_x mX84_y mJ2_elementData mJ2_size mJ4_words mJ4_wordsInUse mJ4_sizeIsSticky (A 0 0) x a b := by
  unfold wpRE_X35_counts
  refine ⟨⟨Nat.zero_le _, Nat.zero_le _⟩, CRE_isFact (fun f => ⟨fun z => absurd z (by decide), fun _ => ⟨MC, MS, ⟨by omega, by omega⟩, CRE_find hMC hMS I Rm (fun kd9 an9 ai9 al9 ci9 kn9 rc9 la9 ne9 wo9 lg9 wd9 iu9 sk9 Rm9 kz kl => ?_)⟩⟩) (fun w => ⟨fun _ => ⟨Nat.zero_le _, Nat.zero_le _, h1 w⟩, fun z => absurd rfl z⟩)⟩
  have G := hp f kd9 an9 ai9 al9 ci9 kn9 rc9 la9 ne9 wo9 lg9 wd9 iu9 sk9 Rm9 kz
  have Rm9' := Rm9
  obtain ⟨⟨H, rF⟩, ⟨e0, F, H_, Li, Ro, Pa, R, mo⟩, la, ne, W, L, P, hne, eL, ⟨rL, rN⟩, B, p0, told⟩ := Rm9
  obtain ⟨⟨rSd, rH, rR⟩, ⟨rT, rNd, rHd, rS⟩, ⟨rRd, rCt, rV, rTg⟩, rC, rCo, rG⟩ := rF
  obtain ⟨t1, t2, t3, t4, t5, t6, t7⟩ := told kz
  unfold reCou at G
  rw [pif_t f] at G
  have cd := reCd_b f
  rw [← t3 _ cd.1 cd.2] at G
  exact ⟨⟨by omega, by omega⟩, CRE_code f (kOn_of rCt ⟨rx_kd H 4 1 (by decide) (by decide), by rw [rx_an H 4 1 (by decide) (by decide) (by decide)]; exact cd, by omega, by omega, G⟩)⟩
theorem CRE_row {post : Int → (Nat → Nat) → (Nat → Nat) → (Nat → Int → Int) → (Nat → Int → Int) → (Nat → Int) → (Nat → Int) → (Nat → Int) → (Nat → Option Nat) → (Nat → Option Nat) → (Nat → Int) → (Nat → Int) → (Nat → Option Nat) → (Nat → Int) → (Nat → Int) → Prop} {x : Int} (hMC : mX35_known (A 0 0) = 0 → 2550 ≤ MC) (hMS : mX35_known (A 0 0) = 0 → 5100 ≤ MS) (I : reI hd ki fo ln pt n) (Rm : rxRm kd an ai al ar mX35_said mX35_rules mX35_strata mX35_needs mX35_safe mX35_circle mX35_known mX35_holds mX35_rounds mX35_counts mX35_roundCount mX35_last mX35_next mX35_values mX35_coming mX35_counting mX35_gathering mX35_together mX35_held mX35_work mX35_large mX83_head mX83_parts mX83_kind mX83_variable mX84_sort mX84_name mX84_x mX84_y mJ1_modCount mJ2_elementData mJ2_size mJ4_words mJ4_wordsInUse mJ4_sizeIsSticky (sa 0) A G l0 mb sd hd ki fo ln pt n) (hx : -2147483648 ≤ x) (hp : ∀ kd9 an9 ai9 al9 ci9 kn9 rc9 la9 ne9 wo9 lg9 wd9 iu9 sk9, rxRm kd9 an9 ai9 al9 ar mX35_said mX35_rules mX35_strata mX35_needs mX35_safe ci9 kn9 mX35_holds mX35_rounds mX35_counts rc9 la9 ne9 mX35_values mX35_coming mX35_counting mX35_gathering mX35_together mX35_held wo9 lg9 mX83_head mX83_parts mX83_kind mX83_variable mX84_sort mX84_name mX84_x mX84_y mJ1_modCount mJ2_elementData mJ2_size wd9 iu9 sk9 (sa 0) A G l0 mb sd hd ki fo ln pt n → ¬ kn9 (A 0 0) = 0 → post (reRow sd hd ki fo ln pt n x) kd9 an9 ai9 al9 ci9 kn9 rc9 la9 ne9 wo9 lg9 wd9 iu9 sk9) : wpRE_X35_row MC MS post kd an ai al ar mX35_said mX35_rules mX35_strata mX35_needs mX35_safe mX35_circle mX35_known mX35_holds mX35_rounds mX35_counts mX35_roundCount mX35_last mX35_next mX35_values mX35_coming mX35_counting mX35_gathering mX35_together mX35_held mX35_work mX35_large mX83_head mX83_parts mX83_kind mX83_variable mX84_sort mX84_name mX84_x mX84_y mJ2_elementData mJ2_size mJ4_words mJ4_wordsInUse mJ4_sizeIsSticky (A 0 0) x := by
  unfold wpRE_X35_row
  refine ⟨MC, MS, ⟨by omega, by omega⟩, CRE_find hMC hMS I Rm (fun kd9 an9 ai9 al9 ci9 kn9 rc9 la9 ne9 wo9 lg9 wd9 iu9 sk9 Rm9 kz kl => ?_)⟩
  have G := hp kd9 an9 ai9 al9 ci9 kn9 rc9 la9 ne9 wo9 lg9 wd9 iu9 sk9 Rm9 kz
  have Rm9' := Rm9
  obtain ⟨⟨H, rF⟩, ⟨e0, F, H_, Li, Ro, Pa, R, mo⟩, la, ne, W, L, P, hne, eL, ⟨rL, rN⟩, B, p0, told⟩ := Rm9
  obtain ⟨⟨rSd, rH, rR⟩, ⟨rT, rNd, rHd, rS⟩, ⟨rRd, rCt, rV, rTg⟩, rC, rCo, rG⟩ := rF
  obtain ⟨t1, t2, t3, t4, t5, t6, t7⟩ := told kz
  unfold reRow at G
  have b1 := B.1 1 (by decide) (by decide)
  rw [t1] at b1
  refine ⟨fun z => ⟨⟨by omega, by omega⟩, by omega, kOn_of rH ⟨rx_kd H 1 1 (by decide) (by decide), ⟨by omega, by omega⟩, ?_⟩⟩, fun z => ⟨fun y => absurd y (by decide), fun _ => ⟨by omega, by omega, ?_⟩⟩⟩
  · rw [if_pos z] at G
    have em : (if x + 1 < 0 then 0 else x + 1) = (if 0 ≤ x then x + 1 else 0) := by
      by_cases y : 0 ≤ x
      · rw [if_pos y, if_neg (by omega)]
      · by_cases y2 : x + 1 < 0
        · rw [if_pos y2, if_neg y]
        · rw [if_neg y2, if_neg y]; omega
    have e0 : 0 ≤ (if 0 ≤ x then x + 1 else 0) ∧ (if 0 ≤ x then x + 1 else 0) ≤ 16384 := by split <;> omega
    rw [em]
    generalize (if 0 ≤ x then x + 1 else 0) = m at G e0
    have fs := fstI_s (fun i => m ≤ i ∧ 0 ≤ (rzAll sd hd ki fo ln pt n).1 i) 16384
    refine CRE_nsbG b1 e0.1 (by omega) (fun r r0 pr nr => ⟨fun _ => ⟨by omega, by omega, ?_⟩, fun y => absurd (show 0 ≤ r by omega) y⟩) (fun nr => ⟨fun y => absurd y (by decide), fun _ => ⟨by omega, by omega, ?_⟩⟩)
    · have er : fstI (fun i => m ≤ i ∧ 0 ≤ (rzAll sd hd ki fo ln pt n).1 i) 16384 = r := fstI_u (by omega) (by have := pr.1.2; omega) (fun _ => ⟨r0, pr.2⟩) (fun j j0 j1 w => nr j w.1 j1 ⟨⟨j0, by have := pr.1.2; omega⟩, w.2⟩)
      unfold reRw at G
      rw [er, if_pos pr.1.2] at G
      exact G
    · have er : fstI (fun i => m ≤ i ∧ 0 ≤ (rzAll sd hd ki fo ln pt n).1 i) 16384 = 16384 := fstI_u (by decide) (by decide) (fun w => absurd w (by decide)) (fun j j0 j1 w => nr j w.1 ⟨⟨j0, j1⟩, w.2⟩)
      unfold reRw at G
      rw [er, if_neg (by decide)] at G
      exact G
  · rw [if_neg z] at G; exact G
theorem CRE_size {post : Int → (Nat → Nat) → (Nat → Nat) → (Nat → Int → Int) → (Nat → Int → Int) → (Nat → Int) → (Nat → Int) → (Nat → Int) → (Nat → Option Nat) → (Nat → Option Nat) → (Nat → Int) → (Nat → Int) → (Nat → Option Nat) → (Nat → Int) → (Nat → Int) → Prop} (hMC : mX35_known (A 0 0) = 0 → 2550 ≤ MC) (hMS : mX35_known (A 0 0) = 0 → 5100 ≤ MS) (I : reI hd ki fo ln pt n) (Rm : rxRm kd an ai al ar mX35_said mX35_rules mX35_strata mX35_needs mX35_safe mX35_circle mX35_known mX35_holds mX35_rounds mX35_counts mX35_roundCount mX35_last mX35_next mX35_values mX35_coming mX35_counting mX35_gathering mX35_together mX35_held mX35_work mX35_large mX83_head mX83_parts mX83_kind mX83_variable mX84_sort mX84_name mX84_x mX84_y mJ1_modCount mJ2_elementData mJ2_size mJ4_words mJ4_wordsInUse mJ4_sizeIsSticky (sa 0) A G l0 mb sd hd ki fo ln pt n) (hp : ∀ kd9 an9 ai9 al9 ci9 kn9 rc9 la9 ne9 wo9 lg9 wd9 iu9 sk9, rxRm kd9 an9 ai9 al9 ar mX35_said mX35_rules mX35_strata mX35_needs mX35_safe ci9 kn9 mX35_holds mX35_rounds mX35_counts rc9 la9 ne9 mX35_values mX35_coming mX35_counting mX35_gathering mX35_together mX35_held wo9 lg9 mX83_head mX83_parts mX83_kind mX83_variable mX84_sort mX84_name mX84_x mX84_y mJ1_modCount mJ2_elementData mJ2_size wd9 iu9 sk9 (sa 0) A G l0 mb sd hd ki fo ln pt n → ¬ kn9 (A 0 0) = 0 → post (reSiz sd hd ki fo ln pt n) kd9 an9 ai9 al9 ci9 kn9 rc9 la9 ne9 wo9 lg9 wd9 iu9 sk9) : wpRE_X35_size MC MS post kd an ai al ar mX35_said mX35_rules mX35_strata mX35_needs mX35_safe mX35_circle mX35_known mX35_holds mX35_rounds mX35_counts mX35_roundCount mX35_last mX35_next mX35_values mX35_coming mX35_counting mX35_gathering mX35_together mX35_held mX35_work mX35_large mX83_head mX83_parts mX83_kind mX83_variable mX84_sort mX84_name mX84_x mX84_y mJ2_elementData mJ2_size mJ4_words mJ4_wordsInUse mJ4_sizeIsSticky (A 0 0) := by
  unfold wpRE_X35_size
  refine ⟨MC, MS, ⟨by omega, by omega⟩, CRE_find hMC hMS I Rm (fun kd9 an9 ai9 al9 ci9 kn9 rc9 la9 ne9 wo9 lg9 wd9 iu9 sk9 Rm9 kz kl => ?_)⟩
  have G := hp kd9 an9 ai9 al9 ci9 kn9 rc9 la9 ne9 wo9 lg9 wd9 iu9 sk9 Rm9 kz
  have Rm9' := Rm9
  obtain ⟨⟨H, rF⟩, ⟨e0, F, H_, Li, Ro, Pa, R, mo⟩, la, ne, W, L, P, hne, eL, ⟨rL, rN⟩, B, p0, told⟩ := Rm9
  obtain ⟨⟨rSd, rH, rR⟩, ⟨rT, rNd, rHd, rS⟩, ⟨rRd, rCt, rV, rTg⟩, rC, rCo, rG⟩ := rF
  obtain ⟨t1, t2, t3, t4, t5, t6, t7⟩ := told kz
  have b1 := B.1 1 (by decide) (by decide)
  rw [t1] at b1
  have ec : cntI (reHo (rzAll sd hd ki fo ln pt n).1) 16384 = reSiz sd hd ki fo ln pt n := cntI_c (fun i i0 i1 => ⟨fun w => w.2, fun w => ⟨⟨i0, i1⟩, w⟩⟩)
  refine kOn_of rH ⟨rx_kd H 1 1 (by decide) (by decide), ⟨by omega, by omega⟩, CRE_cardG b1 ⟨by omega, by omega, ?_⟩⟩
  rw [ec]; exact G
theorem rxRs.ag {kv vv : Int} (R : rxRs kd an ar mX83_head mX83_parts mX83_kind mX83_variable mX84_sort mX84_name mX84_x mX84_y mJ2_elementData mJ2_size (sa 0) A hd ki fo ln pt n e0 F H_ Li Ro Pa) (hr : 0 ≤ r ∧ r < n) : rxRs kd an ar mX83_head mX83_parts (va_up mX83_kind (F r) kv) (va_up mX83_variable (F r) vv) mX84_sort mX84_name mX84_x mX84_y mJ2_elementData mJ2_size (sa 0) A hd (updI ki r kv) (updI fo r vv) ln pt n e0 F H_ Li Ro Pa := by
  obtain ⟨R1, R2, R3, R4⟩ := R
  refine ⟨R1, fun i i0 i1 => ?_, R3, R4⟩
  obtain ⟨⟨o0, o1, o2, o3, o4⟩, h⟩ := R2 i i0 i1
  by_cases z : i = r
  · subst z
    exact ⟨⟨o0, o1, o2, by rw [va_up_self, updI_s], by rw [va_up_self, updI_s]⟩, h⟩
  · have ne := (R3 i r i0 i1 hr.1 hr.2 z).1
    exact ⟨⟨o0, o1, o2, by rw [va_up_ne _ _ ne, updI_n z]; exact o3, by rw [va_up_ne _ _ ne, updI_n z]; exact o4⟩, h⟩
theorem CRE_aggregate {post : Int → (Nat → Int) → (Nat → Int) → (Nat → Int) → Prop} {x kv vv : Int} (Rm : rxRm kd an ai al ar mX35_said mX35_rules mX35_strata mX35_needs mX35_safe mX35_circle mX35_known mX35_holds mX35_rounds mX35_counts mX35_roundCount mX35_last mX35_next mX35_values mX35_coming mX35_counting mX35_gathering mX35_together mX35_held mX35_work mX35_large mX83_head mX83_parts mX83_kind mX83_variable mX84_sort mX84_name mX84_x mX84_y mJ1_modCount mJ2_elementData mJ2_size mJ4_words mJ4_wordsInUse mJ4_sizeIsSticky (sa 0) A G l0 mb sd hd ki fo ln pt n) (h1 : ¬ ((0 ≤ x ∧ x < n) ∧ (-1 ≤ kv ∧ kv ≤ 3) ∧ (0 ≤ kv → -6 ≤ vv ∧ vv ≤ -1)) → post (-1) mX35_known mX83_kind mX83_variable)
  (h0 : ((0 ≤ x ∧ x < n) ∧ (-1 ≤ kv ∧ kv ≤ 3) ∧ (0 ≤ kv → -6 ≤ vv ∧ vv ≤ -1)) → ∀ kn9 kp9 vp9, rxRm kd an ai al ar mX35_said mX35_rules mX35_strata mX35_needs mX35_safe mX35_circle kn9 mX35_holds mX35_rounds mX35_counts mX35_roundCount mX35_last mX35_next mX35_values mX35_coming mX35_counting mX35_gathering mX35_together mX35_held mX35_work mX35_large mX83_head mX83_parts kp9 vp9 mX84_sort mX84_name mX84_x mX84_y mJ1_modCount mJ2_elementData mJ2_size mJ4_words mJ4_wordsInUse mJ4_sizeIsSticky (sa 0) A G l0 mb sd hd (updI ki x kv) (updI fo x vv) ln pt n → post 1 kn9 kp9 vp9) : wpRE_X35_aggregate post kd an ar mX35_rules mX35_known mX83_kind mX83_variable mJ2_elementData mJ2_size (A 0 0) x kv vv := by
  obtain ⟨⟨H, rF⟩, ⟨e0, F, H_, Li, Ro, Pa, R, mo⟩, la, ne, W, L, P, hne, eL, ⟨rL, rN⟩, B, p0, told⟩ := Rm
  obtain ⟨⟨rSd, rH, rR⟩, _⟩ := id rF
  have k10 : kd (A 10 0) = 7 := rx_kd H 10 0 (by decide) (by decide)
  have go : ((0 ≤ x ∧ x < n) ∧ (-1 ≤ kv ∧ kv ≤ 3) ∧ (0 ≤ kv → -6 ≤ vv ∧ vv ≤ -1)) → wRE_X35_aggregate_36 post (A 0 0) x kv vv kd an ar mX35_rules mX35_known mX83_kind mX83_variable mJ2_elementData mJ2_size := fun c => by
    unfold wRE_X35_aggregate_36
    exact kOn_of rR ⟨k10, CRE_lget R.1 c.1.1 c.1.2 (kOn_some ⟨(R.2.1 x c.1.1 c.1.2).1.1, fun kp9 e1 vp9 e2 kn9 e3 => h0 c _ _ _ (by
      rw [e1, e2]
      exact ⟨⟨H, rF⟩, ⟨e0, F, H_, Li, Ro, Pa, R.ag c.1, mo⟩, la, ne, W, L, P, hne, eL, ⟨rL, rN⟩, B, p0, fun z => absurd (by rw [e3, va_up_self]) z⟩)⟩)⟩
  unfold wpRE_X35_aggregate
  refine CRE_isRule rR k10 R.1.2.1 (fun x0 x1 => ⟨fun z => absurd z (by decide), fun _ => ⟨fun z => h1 (by omega), fun z => ⟨fun z2 => h1 (by omega), fun z2 => ⟨fun z3 => go (by omega), fun z3 => ⟨fun z4 => h1 (by omega), fun z4 => CRE_isItem (fun it => ⟨fun z => absurd z (by decide), fun _ => go ?_⟩) (fun it => ⟨fun _ => h1 (fun w => it ?_), fun z => absurd rfl z⟩)⟩⟩⟩⟩⟩) (fun w => ⟨fun _ => h1 (fun y => w y.1), fun z => absurd rfl z⟩)
  · unfold reIt at it
    omega
  · unfold reIt
    omega
end
