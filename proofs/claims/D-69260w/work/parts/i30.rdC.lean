/-! RuleEngine (room RE): the component does what a call does -/
/-- how far the words of what is said reach after a fact -/
noncomputable def rqUp (x a b l0 : Int) : reT → Int
  | (sd, _) => pif (reFc x a b) (if sd (reCd x a b) = 0 then reG l0 (reCd x a b / 64 + 1) else l0) l0
theorem rqUp_b {x a b l0 : Int} (hl : 1 ≤ l0 ∧ l0 ≤ 510) (S : reT) : l0 ≤ rqUp x a b l0 S ∧ rqUp x a b l0 S ≤ 510 := by
  obtain ⟨sd, R⟩ := S
  by_cases f : reFc x a b
  · have gb := reG_b hl (u := reCd x a b / 64 + 1) (by have := reCd_b f; omega)
    by_cases z : sd (reCd x a b) = 0
    · rw [show rqUp x a b l0 (sd, R) = reG l0 (reCd x a b / 64 + 1) from (pif_t f).trans (if_pos z)]; exact gb.1
    · rw [show rqUp x a b l0 (sd, R) = l0 from (pif_t f).trans (if_neg z)]; omega
  · rw [show rqUp x a b l0 (sd, R) = l0 from pif_f f]; omega
def reIC (kd : Nat → Nat) (an : Nat → Nat) (ai : Nat → Int → Int) (al : Nat → Int → Int) (ar : Nat → Int → Option Nat) (mX35_said : Nat → Option Nat) (mX35_rules : Nat → Option Nat) (mX35_strata : Nat → Option Nat) (mX35_needs : Nat → Option Nat) (mX35_safe : Nat → Option Nat) (mX35_circle : Nat → Int) (mX35_known : Nat → Int) (mX35_holds : Nat → Option Nat) (mX35_rounds : Nat → Option Nat) (mX35_counts : Nat → Option Nat) (mX35_roundCount : Nat → Int) (mX35_last : Nat → Option Nat) (mX35_next : Nat → Option Nat) (mX35_values : Nat → Option Nat) (mX35_coming : Nat → Option Nat) (mX35_counting : Nat → Option Nat) (mX35_gathering : Nat → Option Nat) (mX35_together : Nat → Option Nat) (mX35_held : Nat → Option Nat) (mX35_work : Nat → Int) (mX35_large : Nat → Int) (mX83_head : Nat → Option Nat) (mX83_parts : Nat → Option Nat) (mX83_kind : Nat → Int) (mX83_variable : Nat → Int) (mX84_sort : Nat → Int) (mX84_name : Nat → Int) (mX84_x : Nat → Int) (mX84_y : Nat → Int) (mJ1_modCount : Nat → Int) (mJ2_elementData : Nat → Option Nat) (mJ2_size : Nat → Int) (mJ4_words : Nat → Option Nat) (mJ4_wordsInUse : Nat → Int) (mJ4_sizeIsSticky : Nat → Int) (sa : Nat → Nat) (x : Nat) (l0 mb kz : Int) (S : reT) : Prop := ∃ A G sd hd ki fo ln pt n, A 0 0 = x ∧ rxRm kd an ai al ar mX35_said mX35_rules mX35_strata mX35_needs mX35_safe mX35_circle mX35_known mX35_holds mX35_rounds mX35_counts mX35_roundCount mX35_last mX35_next mX35_values mX35_coming mX35_counting mX35_gathering mX35_together mX35_held mX35_work mX35_large mX83_head mX83_parts mX83_kind mX83_variable mX84_sort mX84_name mX84_x mX84_y mJ1_modCount mJ2_elementData mJ2_size mJ4_words mJ4_wordsInUse mJ4_sizeIsSticky (sa 0) A G l0 mb sd hd ki fo ln pt n ∧ reI hd ki fo ln pt n ∧ (1 ≤ l0 ∧ l0 ≤ 510) ∧ (mX35_known x = 0 → kz = 0) ∧ S = (sd, hd, ki, fo, ln, pt, n)
section
variable {kd : Nat → Nat} {an : Nat → Nat} {ai : Nat → Int → Int} {al : Nat → Int → Int} {ar : Nat → Int → Option Nat} {mX35_said : Nat → Option Nat} {mX35_rules : Nat → Option Nat} {mX35_strata : Nat → Option Nat} {mX35_needs : Nat → Option Nat} {mX35_safe : Nat → Option Nat} {mX35_circle : Nat → Int} {mX35_known : Nat → Int} {mX35_holds : Nat → Option Nat} {mX35_rounds : Nat → Option Nat} {mX35_counts : Nat → Option Nat} {mX35_roundCount : Nat → Int} {mX35_last : Nat → Option Nat} {mX35_next : Nat → Option Nat} {mX35_values : Nat → Option Nat} {mX35_coming : Nat → Option Nat} {mX35_counting : Nat → Option Nat} {mX35_gathering : Nat → Option Nat} {mX35_together : Nat → Option Nat} {mX35_held : Nat → Option Nat} {mX35_work : Nat → Int} {mX35_large : Nat → Int} {mX83_head : Nat → Option Nat} {mX83_parts : Nat → Option Nat} {mX83_kind : Nat → Int} {mX83_variable : Nat → Int} {mX84_sort : Nat → Int} {mX84_name : Nat → Int} {mX84_x : Nat → Int} {mX84_y : Nat → Int} {mJ1_modCount : Nat → Int} {mJ2_elementData : Nat → Option Nat} {mJ2_size : Nat → Int} {mJ4_words : Nat → Option Nat} {mJ4_wordsInUse : Nat → Int} {mJ4_sizeIsSticky : Nat → Int} {sa : Nat → Nat} {x : Nat} {l0 mb kz a b r y c k v w z : Int} {S : reT} {MC MS : Nat}
theorem rxRm.umb {A : Nat → Int → Nat} {G : Nat → Nat × Int} {s0 : Nat} {mb' n : Int} {sd hd ki fo ln pt : Int → Int} (h : rxRm kd an ai al ar mX35_said mX35_rules mX35_strata mX35_needs mX35_safe mX35_circle mX35_known mX35_holds mX35_rounds mX35_counts mX35_roundCount mX35_last mX35_next mX35_values mX35_coming mX35_counting mX35_gathering mX35_together mX35_held mX35_work mX35_large mX83_head mX83_parts mX83_kind mX83_variable mX84_sort mX84_name mX84_x mX84_y mJ1_modCount mJ2_elementData mJ2_size mJ4_words mJ4_wordsInUse mJ4_sizeIsSticky s0 A G l0 mb sd hd ki fo ln pt n) (hm : mb ≤ mb') : rxRm kd an ai al ar mX35_said mX35_rules mX35_strata mX35_needs mX35_safe mX35_circle mX35_known mX35_holds mX35_rounds mX35_counts mX35_roundCount mX35_last mX35_next mX35_values mX35_coming mX35_counting mX35_gathering mX35_together mX35_held mX35_work mX35_large mX83_head mX83_parts mX83_kind mX83_variable mX84_sort mX84_name mX84_x mX84_y mJ1_modCount mJ2_elementData mJ2_size mJ4_words mJ4_wordsInUse mJ4_sizeIsSticky s0 A G l0 mb' sd hd ki fo ln pt n := by
  obtain ⟨h1, ⟨e0, F, H_, Li, Ro, Pa, R, m1, m2, m3⟩, h3⟩ := h
  exact ⟨h1, ⟨e0, F, H_, Li, Ro, Pa, R, ⟨m1.1, by omega⟩, fun r r0 r1 => ⟨(m2 r r0 r1).1, by have := (m2 r r0 r1).2; omega⟩, m3⟩, h3⟩
theorem rxRm.ul0 {A : Nat → Int → Nat} {G : Nat → Nat × Int} {s0 : Nat} {n : Int} {sd hd ki fo ln pt : Int → Int} (h : rxRm kd an ai al ar mX35_said mX35_rules mX35_strata mX35_needs mX35_safe mX35_circle mX35_known mX35_holds mX35_rounds mX35_counts mX35_roundCount mX35_last mX35_next mX35_values mX35_coming mX35_counting mX35_gathering mX35_together mX35_held mX35_work mX35_large mX83_head mX83_parts mX83_kind mX83_variable mX84_sort mX84_name mX84_x mX84_y mJ1_modCount mJ2_elementData mJ2_size mJ4_words mJ4_wordsInUse mJ4_sizeIsSticky s0 A G l0 mb sd hd ki fo ln pt n) : 1 ≤ l0 ∧ l0 ≤ 510 := by
  obtain ⟨_, _, la, ne, W, L, P, hne, eL, _, B, _⟩ := h
  rw [← eL]
  exact (B.1 0 (by decide) (by decide)).2.1
theorem QRE_f0 {post : Int → (Nat → Nat) → (Nat → Nat) → (Nat → Int → Int) → (Nat → Int) → (Nat → Option Nat) → (Nat → Int) → (Nat → Int) → Prop} {A : Nat → Int → Nat} {G : Nat → Nat × Int} {n : Int} {sd hd ki fo ln pt : Int → Int} (z : ¬ sd (reCd a b c) = 0) (Rm : rxRm kd an ai al ar mX35_said mX35_rules mX35_strata mX35_needs mX35_safe mX35_circle mX35_known mX35_holds mX35_rounds mX35_counts mX35_roundCount mX35_last mX35_next mX35_values mX35_coming mX35_counting mX35_gathering mX35_together mX35_held mX35_work mX35_large mX83_head mX83_parts mX83_kind mX83_variable mX84_sort mX84_name mX84_x mX84_y mJ1_modCount mJ2_elementData mJ2_size mJ4_words mJ4_wordsInUse mJ4_sizeIsSticky (sa 0) A G l0 mb sd hd ki fo ln pt n) (h1 : ¬ reFc a b c → post (-1) kd an al mX35_known mJ4_words mJ4_wordsInUse mJ4_sizeIsSticky) (h2 : reFc a b c → ¬ sd (reCd a b c) = 0 → post 0 kd an al mX35_known mJ4_words mJ4_wordsInUse mJ4_sizeIsSticky) : wpRE_X35_fact MC MS post kd an al mX35_said mX35_known mJ4_words mJ4_wordsInUse mJ4_sizeIsSticky (A 0 0) a b c := by
  unfold wpRE_X35_fact
  refine ⟨⟨Nat.zero_le _, Nat.zero_le _⟩, CRE_isFact (fun f => ⟨fun z => absurd z (by decide), fun _ => ⟨⟨Nat.zero_le _, Nat.zero_le _⟩, CRE_code f ⟨0, 0, ⟨by omega, by omega⟩, ?_⟩⟩⟩) (fun f => ⟨fun _ => ⟨Nat.zero_le _, Nat.zero_le _, h1 f⟩, fun z => absurd rfl z⟩)⟩
  obtain ⟨⟨H, rF⟩, _, la, ne, W, L, P, hne, eL, ⟨rL, rN⟩, B, p0, told⟩ := Rm
  obtain ⟨⟨rSd, rH, rR⟩, _⟩ := id rF
  have hc := reCd_b f
  have k0 : kd (A 1 0) = 8 := rx_kd H 1 0 (by decide) (by decide)
  have b0 := B.1 0 (by decide) (by decide)
  have q0 : P 0 (reCd a b c) := by
    rw [p0]
    exact ⟨hc, z⟩
  unfold wpRE_X35_change
  refine kOn_of rSd ⟨k0, ⟨Nat.zero_le _, Nat.zero_le _⟩, CRE_getG b0 hc.1 hc.2 (fun q => ⟨fun z => ⟨Nat.zero_le _, Nat.zero_le _, fun kl => ⟨by omega, by omega, h2 f (by assumption)⟩⟩, fun z => absurd rfl z⟩) (fun q => absurd q0 q)⟩
theorem QRE_fact {post : Int → (Nat → Nat) → (Nat → Nat) → (Nat → Int → Int) → (Nat → Int) → (Nat → Option Nat) → (Nat → Int) → (Nat → Int) → Prop} (R : reIC kd an ai al ar mX35_said mX35_rules mX35_strata mX35_needs mX35_safe mX35_circle mX35_known mX35_holds mX35_rounds mX35_counts mX35_roundCount mX35_last mX35_next mX35_values mX35_coming mX35_counting mX35_gathering mX35_together mX35_held mX35_work mX35_large mX83_head mX83_parts mX83_kind mX83_variable mX84_sort mX84_name mX84_x mX84_y mJ1_modCount mJ2_elementData mJ2_size mJ4_words mJ4_wordsInUse mJ4_sizeIsSticky sa x l0 mb kz S) (hC : rqUp a b c l0 S - l0 ≤ MC) (hS : 2 * (rqUp a b c l0 S - l0) ≤ MS) (h : ∀ kd9 an9 al9 kn9 wd9 iu9 sk9, reIC kd9 an9 ai al9 ar mX35_said mX35_rules mX35_strata mX35_needs mX35_safe mX35_circle kn9 mX35_holds mX35_rounds mX35_counts mX35_roundCount mX35_last mX35_next mX35_values mX35_coming mX35_counting mX35_gathering mX35_together mX35_held mX35_work mX35_large mX83_head mX83_parts mX83_kind mX83_variable mX84_sort mX84_name mX84_x mX84_y mJ1_modCount mJ2_elementData mJ2_size wd9 iu9 sk9 sa x (rqUp a b c l0 S) mb 0 ((rqFact a b c S).2) → post (rqFact a b c S).1 kd9 an9 al9 kn9 wd9 iu9 sk9) : wpRE_X35_fact MC MS post kd an al mX35_said mX35_known mJ4_words mJ4_wordsInUse mJ4_sizeIsSticky x a b c := by
  obtain ⟨A, G, sd, hd, ki, fo, ln, pt, n, rfl, Rm, I, hl, hk, rfl⟩ := R
  by_cases f : reFc a b c
  · by_cases z : sd (reCd a b c) = 0
    · have u : rqUp a b c l0 (sd, hd, ki, fo, ln, pt, n) = reG l0 (reCd a b c / 64 + 1) := (pif_t f).trans (if_pos z)
      have e : rqFact a b c (sd, hd, ki, fo, ln, pt, n) = (1, (updI sd (reCd a b c) 1, hd, ki, fo, ln, pt, n)) := (pif_t f).trans (if_pos z)
      rw [u] at hC hS
      rw [u, e] at h
      exact CRE_fact hC hS Rm (fun w => absurd f w) (fun _ w => absurd z w) (fun _ _ kd9 an9 al9 kn9 wd9 iu9 sk9 Rm9 => h _ _ _ _ _ _ _ ⟨A, G, _, _, _, _, _, _, _, rfl, Rm9, I, rxRm.ul0 Rm9, fun _ => rfl, rfl⟩)
    · have u : rqUp a b c l0 (sd, hd, ki, fo, ln, pt, n) = l0 := (pif_t f).trans (if_neg z)
      have e : rqFact a b c (sd, hd, ki, fo, ln, pt, n) = (0, (sd, hd, ki, fo, ln, pt, n)) := (pif_t f).trans (if_neg z)
      rw [u, e] at h
      exact QRE_f0 z Rm (fun w => absurd f w) (fun _ _ => h _ _ _ _ _ _ _ ⟨A, G, _, _, _, _, _, _, _, rfl, Rm, I, hl, fun _ => rfl, rfl⟩)
  · have u : rqUp a b c l0 (sd, hd, ki, fo, ln, pt, n) = l0 := pif_f f
    have e : rqFact a b c (sd, hd, ki, fo, ln, pt, n) = (-1, (sd, hd, ki, fo, ln, pt, n)) := pif_f f
    rw [u, e] at h
    unfold wpRE_X35_fact
    exact ⟨⟨Nat.zero_le _, Nat.zero_le _⟩, CRE_isFact (fun f2 => absurd f2 f) (fun _ => ⟨fun _ => ⟨Nat.zero_le _, Nat.zero_le _, h _ _ _ _ _ _ _ ⟨A, G, _, _, _, _, _, _, _, rfl, Rm, I, hl, fun _ => rfl, rfl⟩⟩, fun z => absurd rfl z⟩)⟩
theorem QRE_remove {post : Int → (Nat → Nat) → (Nat → Nat) → (Nat → Int → Int) → (Nat → Int) → (Nat → Option Nat) → (Nat → Int) → (Nat → Int) → Prop} (R : reIC kd an ai al ar mX35_said mX35_rules mX35_strata mX35_needs mX35_safe mX35_circle mX35_known mX35_holds mX35_rounds mX35_counts mX35_roundCount mX35_last mX35_next mX35_values mX35_coming mX35_counting mX35_gathering mX35_together mX35_held mX35_work mX35_large mX83_head mX83_parts mX83_kind mX83_variable mX84_sort mX84_name mX84_x mX84_y mJ1_modCount mJ2_elementData mJ2_size mJ4_words mJ4_wordsInUse mJ4_sizeIsSticky sa x l0 mb kz S) (h : ∀ kd9 an9 al9 kn9 wd9 iu9 sk9, reIC kd9 an9 ai al9 ar mX35_said mX35_rules mX35_strata mX35_needs mX35_safe mX35_circle kn9 mX35_holds mX35_rounds mX35_counts mX35_roundCount mX35_last mX35_next mX35_values mX35_coming mX35_counting mX35_gathering mX35_together mX35_held mX35_work mX35_large mX83_head mX83_parts mX83_kind mX83_variable mX84_sort mX84_name mX84_x mX84_y mJ1_modCount mJ2_elementData mJ2_size wd9 iu9 sk9 sa x l0 mb 0 ((rqRemove a b c S).2) → post (rqRemove a b c S).1 kd9 an9 al9 kn9 wd9 iu9 sk9) : wpRE_X35_remove MC MS post kd an al mX35_said mX35_known mJ4_words mJ4_wordsInUse mJ4_sizeIsSticky x a b c := by
  obtain ⟨A, G, sd, hd, ki, fo, ln, pt, n, rfl, Rm, I, hl, hk, rfl⟩ := R
  refine CRE_remove Rm (fun f => ?_) (fun f z => ?_) (fun f z kd9 an9 al9 kn9 wd9 iu9 sk9 Rm9 => ?_)
  · have e : rqRemove a b c (sd, hd, ki, fo, ln, pt, n) = (-1, (sd, hd, ki, fo, ln, pt, n)) := pif_f f
    rw [e] at h
    exact h _ _ _ _ _ _ _ ⟨A, G, _, _, _, _, _, _, _, rfl, Rm, I, hl, fun _ => rfl, rfl⟩
  · have e : rqRemove a b c (sd, hd, ki, fo, ln, pt, n) = (0, (sd, hd, ki, fo, ln, pt, n)) := (pif_t f).trans (if_pos z)
    rw [e] at h
    exact h _ _ _ _ _ _ _ ⟨A, G, _, _, _, _, _, _, _, rfl, Rm, I, hl, fun _ => rfl, rfl⟩
  · have e : rqRemove a b c (sd, hd, ki, fo, ln, pt, n) = (1, (updI sd (reCd a b c) 0, hd, ki, fo, ln, pt, n)) := (pif_t f).trans (if_neg z)
    rw [e] at h
    exact h _ _ _ _ _ _ _ ⟨A, G, _, _, _, _, _, _, _, rfl, Rm9, I, hl, fun _ => rfl, rfl⟩
theorem QRE_rule {post : Int → (Nat → Nat) → (Nat → Nat) → (Nat → Int → Option Nat) → (Nat → Int) → (Nat → Option Nat) → (Nat → Option Nat) → (Nat → Int) → (Nat → Int) → (Nat → Int) → (Nat → Int) → (Nat → Int) → (Nat → Int) → (Nat → Int) → (Nat → Option Nat) → (Nat → Int) → Prop} (R : reIC kd an ai al ar mX35_said mX35_rules mX35_strata mX35_needs mX35_safe mX35_circle mX35_known mX35_holds mX35_rounds mX35_counts mX35_roundCount mX35_last mX35_next mX35_values mX35_coming mX35_counting mX35_gathering mX35_together mX35_held mX35_work mX35_large mX83_head mX83_parts mX83_kind mX83_variable mX84_sort mX84_name mX84_x mX84_y mJ1_modCount mJ2_elementData mJ2_size mJ4_words mJ4_wordsInUse mJ4_sizeIsSticky sa x l0 mb kz S) (hC : 4 ≤ MC) (hS : 60 ≤ MS) (hmb : mb < 90000) (h : ∀ kd9 an9 ar9 kn9 hp9 pp9 kp9 vp9 so9 nm9 px9 py9 mo9 ed9 sz9, reIC kd9 an9 ai al ar9 mX35_said mX35_rules mX35_strata mX35_needs mX35_safe mX35_circle kn9 mX35_holds mX35_rounds mX35_counts mX35_roundCount mX35_last mX35_next mX35_values mX35_coming mX35_counting mX35_gathering mX35_together mX35_held mX35_work mX35_large hp9 pp9 kp9 vp9 so9 nm9 px9 py9 mo9 ed9 sz9 mJ4_words mJ4_wordsInUse mJ4_sizeIsSticky sa x l0 (mb + 1) 0 ((rqRule a b c S).2) → post (rqRule a b c S).1 kd9 an9 ar9 kn9 hp9 pp9 kp9 vp9 so9 nm9 px9 py9 mo9 ed9 sz9) : wpRE_X35_rule MC MS post kd an ar mX35_rules mX35_known mX83_head mX83_parts mX83_kind mX83_variable mX84_sort mX84_name mX84_x mX84_y mJ1_modCount mJ2_elementData mJ2_size sa x a b c := by
  obtain ⟨A, G, sd, hd, ki, fo, ln, pt, n, rfl, Rm, I, hl, hk, rfl⟩ := R
  refine CRE_rule hC hS I Rm hmb (fun f => ?_) (fun f z => ?_) (fun f z kd9 an9 ar9 kn9 hp9 pp9 kp9 vp9 so9 nm9 px9 py9 mo9 ed9 sz9 Rm9 => ?_)
  · have e : rqRule a b c (sd, hd, ki, fo, ln, pt, n) = (-1, (sd, hd, ki, fo, ln, pt, n)) := pif_f f
    rw [e] at h
    exact h _ _ _ _ _ _ _ _ _ _ _ _ _ _ _ ⟨A, G, _, _, _, _, _, _, _, rfl, rxRm.umb Rm (by omega), I, hl, fun _ => rfl, rfl⟩
  · have e : rqRule a b c (sd, hd, ki, fo, ln, pt, n) = (-3, (sd, hd, ki, fo, ln, pt, n)) := (pif_t f).trans (if_pos z)
    rw [e] at h
    exact h _ _ _ _ _ _ _ _ _ _ _ _ _ _ _ ⟨A, G, _, _, _, _, _, _, _, rfl, rxRm.umb Rm (by omega), I, hl, fun _ => rfl, rfl⟩
  · have e : rqRule a b c (sd, hd, ki, fo, ln, pt, n) = (n, (sd, updI (updI (updI hd (3 * n) a) (3 * n + 1) b) (3 * n + 2) c, updI ki n (-1), updI fo n 0, updI ln n 0, pt, n + 1)) := (pif_t f).trans (if_neg (by omega))
    rw [e] at h
    exact h _ _ _ _ _ _ _ _ _ _ _ _ _ _ _ ⟨A, G, _, _, _, _, _, _, _, rfl, Rm9, I.rule f z, hl, fun _ => rfl, rfl⟩
theorem QRE_body {post : Int → (Nat → Nat) → (Nat → Nat) → (Nat → Int → Option Nat) → (Nat → Int) → (Nat → Int) → (Nat → Int) → (Nat → Int) → (Nat → Int) → (Nat → Int) → (Nat → Option Nat) → (Nat → Int) → Prop} (R : reIC kd an ai al ar mX35_said mX35_rules mX35_strata mX35_needs mX35_safe mX35_circle mX35_known mX35_holds mX35_rounds mX35_counts mX35_roundCount mX35_last mX35_next mX35_values mX35_coming mX35_counting mX35_gathering mX35_together mX35_held mX35_work mX35_large mX83_head mX83_parts mX83_kind mX83_variable mX84_sort mX84_name mX84_x mX84_y mJ1_modCount mJ2_elementData mJ2_size mJ4_words mJ4_wordsInUse mJ4_sizeIsSticky sa x l0 mb kz S) (hC : 2 ≤ MC) (hS : 44 ≤ MS) (hmb : mb < 90000) (h : ∀ kd9 an9 ar9 kn9 so9 nm9 px9 py9 mo9 ed9 sz9, reIC kd9 an9 ai al ar9 mX35_said mX35_rules mX35_strata mX35_needs mX35_safe mX35_circle kn9 mX35_holds mX35_rounds mX35_counts mX35_roundCount mX35_last mX35_next mX35_values mX35_coming mX35_counting mX35_gathering mX35_together mX35_held mX35_work mX35_large mX83_head mX83_parts mX83_kind mX83_variable so9 nm9 px9 py9 mo9 ed9 sz9 mJ4_words mJ4_wordsInUse mJ4_sizeIsSticky sa x l0 (mb + 1) 0 ((rqPart 16 r (if z = 0 then 0 else 1) a y c S).2) → post (rqPart 16 r (if z = 0 then 0 else 1) a y c S).1 kd9 an9 ar9 kn9 so9 nm9 px9 py9 mo9 ed9 sz9) : wpRE_X35_body MC MS post kd an ar mX35_rules mX35_known mX83_parts mX84_sort mX84_name mX84_x mX84_y mJ1_modCount mJ2_elementData mJ2_size sa x r a y c z := by
  obtain ⟨A, G, sd, hd, ki, fo, ln, pt, n, rfl, Rm, I, hl, hk, rfl⟩ := R
  refine CRE_body hC hS I Rm hmb (fun f => ?_) (fun f l kd9 so9 nm9 px9 py9 Rm9 => ?_) (fun f l kd9 an9 ar9 kn9 so9 nm9 px9 py9 mo9 ed9 sz9 Rm9 => ?_)
  · have e : rqPart 16 r (if z = 0 then 0 else 1) a y c (sd, hd, ki, fo, ln, pt, n) = (-1, (sd, hd, ki, fo, ln, pt, n)) := pif_f f
    rw [e] at h
    exact h _ _ _ _ _ _ _ _ _ _ _ ⟨A, G, _, _, _, _, _, _, _, rfl, rxRm.umb Rm (by omega), I, hl, fun _ => rfl, rfl⟩
  · have e : rqPart 16 r (if z = 0 then 0 else 1) a y c (sd, hd, ki, fo, ln, pt, n) = (-3, (sd, hd, ki, fo, ln, pt, n)) := (pif_t f).trans (if_pos l)
    rw [e] at h
    exact h _ _ _ _ _ _ _ _ _ _ _ ⟨A, G, _, _, _, _, _, _, _, rfl, rxRm.umb Rm9 (by omega), I, hl, fun _ => rfl, rfl⟩
  · have e : rqPart 16 r (if z = 0 then 0 else 1) a y c (sd, hd, ki, fo, ln, pt, n) = (ln r + 1, (sd, hd, ki, fo, updI ln r (ln r + 1), updI (updI (updI (updI pt (20 * r + 4 * ln r) (if z = 0 then 0 else 1)) (20 * r + 4 * ln r + 1) a) (20 * r + 4 * ln r + 2) y) (20 * r + 4 * ln r + 3) c, n)) := (pif_t f).trans (if_neg (by omega))
    rw [e] at h
    exact h _ _ _ _ _ _ _ _ _ _ _ ⟨A, G, _, _, _, _, _, _, _, rfl, Rm9, I.part f.1 (by split <;> decide) ⟨f.2.1, f.2.2⟩ l, hl, fun _ => rfl, rfl⟩
theorem QRE_filter {post : Int → (Nat → Nat) → (Nat → Nat) → (Nat → Int → Option Nat) → (Nat → Int) → (Nat → Int) → (Nat → Int) → (Nat → Int) → (Nat → Int) → (Nat → Int) → (Nat → Option Nat) → (Nat → Int) → Prop} (R : reIC kd an ai al ar mX35_said mX35_rules mX35_strata mX35_needs mX35_safe mX35_circle mX35_known mX35_holds mX35_rounds mX35_counts mX35_roundCount mX35_last mX35_next mX35_values mX35_coming mX35_counting mX35_gathering mX35_together mX35_held mX35_work mX35_large mX83_head mX83_parts mX83_kind mX83_variable mX84_sort mX84_name mX84_x mX84_y mJ1_modCount mJ2_elementData mJ2_size mJ4_words mJ4_wordsInUse mJ4_sizeIsSticky sa x l0 mb kz S) (hC : 2 ≤ MC) (hS : 44 ≤ MS) (hmb : mb < 90000) (h : ∀ kd9 an9 ar9 kn9 so9 nm9 px9 py9 mo9 ed9 sz9, reIC kd9 an9 ai al ar9 mX35_said mX35_rules mX35_strata mX35_needs mX35_safe mX35_circle kn9 mX35_holds mX35_rounds mX35_counts mX35_roundCount mX35_last mX35_next mX35_values mX35_coming mX35_counting mX35_gathering mX35_together mX35_held mX35_work mX35_large mX83_head mX83_parts mX83_kind mX83_variable so9 nm9 px9 py9 mo9 ed9 sz9 mJ4_words mJ4_wordsInUse mJ4_sizeIsSticky sa x l0 (mb + 1) 0 ((rqPart 3 r 2 a y c S).2) → post (rqPart 3 r 2 a y c S).1 kd9 an9 ar9 kn9 so9 nm9 px9 py9 mo9 ed9 sz9) : wpRE_X35_filter MC MS post kd an ar mX35_rules mX35_known mX83_parts mX84_sort mX84_name mX84_x mX84_y mJ1_modCount mJ2_elementData mJ2_size sa x r a y c := by
  obtain ⟨A, G, sd, hd, ki, fo, ln, pt, n, rfl, Rm, I, hl, hk, rfl⟩ := R
  refine CRE_filter hC hS I Rm hmb (fun f => ?_) (fun f l kd9 so9 nm9 px9 py9 Rm9 => ?_) (fun f l kd9 an9 ar9 kn9 so9 nm9 px9 py9 mo9 ed9 sz9 Rm9 => ?_)
  · have e : rqPart 3 r 2 a y c (sd, hd, ki, fo, ln, pt, n) = (-1, (sd, hd, ki, fo, ln, pt, n)) := pif_f f
    rw [e] at h
    exact h _ _ _ _ _ _ _ _ _ _ _ ⟨A, G, _, _, _, _, _, _, _, rfl, rxRm.umb Rm (by omega), I, hl, fun _ => rfl, rfl⟩
  · have e : rqPart 3 r 2 a y c (sd, hd, ki, fo, ln, pt, n) = (-3, (sd, hd, ki, fo, ln, pt, n)) := (pif_t f).trans (if_pos l)
    rw [e] at h
    exact h _ _ _ _ _ _ _ _ _ _ _ ⟨A, G, _, _, _, _, _, _, _, rfl, rxRm.umb Rm9 (by omega), I, hl, fun _ => rfl, rfl⟩
  · have e : rqPart 3 r 2 a y c (sd, hd, ki, fo, ln, pt, n) = (ln r + 1, (sd, hd, ki, fo, updI ln r (ln r + 1), updI (updI (updI (updI pt (20 * r + 4 * ln r) 2) (20 * r + 4 * ln r + 1) a) (20 * r + 4 * ln r + 2) y) (20 * r + 4 * ln r + 3) c, n)) := (pif_t f).trans (if_neg (by omega))
    rw [e] at h
    exact h _ _ _ _ _ _ _ _ _ _ _ ⟨A, G, _, _, _, _, _, _, _, rfl, Rm9, I.part f.1 (by decide) ⟨⟨f.2.1.1, by omega⟩, f.2.2⟩ l, hl, fun _ => rfl, rfl⟩
theorem QRE_aggregate {post : Int → (Nat → Int) → (Nat → Int) → (Nat → Int) → Prop} (R : reIC kd an ai al ar mX35_said mX35_rules mX35_strata mX35_needs mX35_safe mX35_circle mX35_known mX35_holds mX35_rounds mX35_counts mX35_roundCount mX35_last mX35_next mX35_values mX35_coming mX35_counting mX35_gathering mX35_together mX35_held mX35_work mX35_large mX83_head mX83_parts mX83_kind mX83_variable mX84_sort mX84_name mX84_x mX84_y mJ1_modCount mJ2_elementData mJ2_size mJ4_words mJ4_wordsInUse mJ4_sizeIsSticky sa x l0 mb kz S) (h : ∀ kn9 kp9 vp9, reIC kd an ai al ar mX35_said mX35_rules mX35_strata mX35_needs mX35_safe mX35_circle kn9 mX35_holds mX35_rounds mX35_counts mX35_roundCount mX35_last mX35_next mX35_values mX35_coming mX35_counting mX35_gathering mX35_together mX35_held mX35_work mX35_large mX83_head mX83_parts kp9 vp9 mX84_sort mX84_name mX84_x mX84_y mJ1_modCount mJ2_elementData mJ2_size mJ4_words mJ4_wordsInUse mJ4_sizeIsSticky sa x l0 mb 0 ((rqAgg r k v S).2) → post (rqAgg r k v S).1 kn9 kp9 vp9) : wpRE_X35_aggregate post kd an ar mX35_rules mX35_known mX83_kind mX83_variable mJ2_elementData mJ2_size x r k v := by
  obtain ⟨A, G, sd, hd, ki, fo, ln, pt, n, rfl, Rm, I, hl, hk, rfl⟩ := R
  refine CRE_aggregate Rm (fun f => ?_) (fun f kn9 kp9 vp9 Rm9 => ?_)
  · have e : rqAgg r k v (sd, hd, ki, fo, ln, pt, n) = (-1, (sd, hd, ki, fo, ln, pt, n)) := pif_f f
    rw [e] at h
    exact h _ _ _ ⟨A, G, _, _, _, _, _, _, _, rfl, Rm, I, hl, fun _ => rfl, rfl⟩
  · have e : rqAgg r k v (sd, hd, ki, fo, ln, pt, n) = (1, (sd, hd, updI ki r k, updI fo r v, ln, pt, n)) := pif_t f
    rw [e] at h
    exact h _ _ _ ⟨A, G, _, _, _, _, _, _, _, rfl, Rm9, I.agg f, hl, fun _ => rfl, rfl⟩
theorem QRE_drop {post : Int → (Nat → Int → Option Nat) → (Nat → Int) → (Nat → Int) → (Nat → Int) → Prop} (R : reIC kd an ai al ar mX35_said mX35_rules mX35_strata mX35_needs mX35_safe mX35_circle mX35_known mX35_holds mX35_rounds mX35_counts mX35_roundCount mX35_last mX35_next mX35_values mX35_coming mX35_counting mX35_gathering mX35_together mX35_held mX35_work mX35_large mX83_head mX83_parts mX83_kind mX83_variable mX84_sort mX84_name mX84_x mX84_y mJ1_modCount mJ2_elementData mJ2_size mJ4_words mJ4_wordsInUse mJ4_sizeIsSticky sa x l0 mb kz S) (hmb : mb < 90000) (h : ∀ ar9 kn9 mo9 sz9, reIC kd an ai al ar9 mX35_said mX35_rules mX35_strata mX35_needs mX35_safe mX35_circle kn9 mX35_holds mX35_rounds mX35_counts mX35_roundCount mX35_last mX35_next mX35_values mX35_coming mX35_counting mX35_gathering mX35_together mX35_held mX35_work mX35_large mX83_head mX83_parts mX83_kind mX83_variable mX84_sort mX84_name mX84_x mX84_y mo9 mJ2_elementData sz9 mJ4_words mJ4_wordsInUse mJ4_sizeIsSticky sa x l0 (mb + 1) 0 ((rqDrop r S).2) → post (rqDrop r S).1 ar9 kn9 mo9 sz9) : wpRE_X35_drop post kd an ar mX35_rules mX35_known mJ1_modCount mJ2_elementData mJ2_size x r := by
  obtain ⟨A, G, sd, hd, ki, fo, ln, pt, n, rfl, Rm, I, hl, hk, rfl⟩ := R
  refine CRE_drop I Rm hmb (fun f => ?_) (fun f0 f1 ar9 kn9 mo9 sz9 Rm9 => ?_)
  · have e : rqDrop r (sd, hd, ki, fo, ln, pt, n) = (-1, (sd, hd, ki, fo, ln, pt, n)) := if_neg f
    rw [e] at h
    exact h _ _ _ _ ⟨A, G, _, _, _, _, _, _, _, rfl, rxRm.umb Rm (by omega), I, hl, fun _ => rfl, rfl⟩
  · have e : rqDrop r (sd, hd, ki, fo, ln, pt, n) = (n - 1, (sd, reSh hd 3 r (n - 1), reSh ki 1 r (n - 1), reSh fo 1 r (n - 1), reSh ln 1 r (n - 1), reSh pt 20 r (n - 1), n - 1)) := if_pos ⟨f0, f1⟩
    rw [e] at h
    exact h _ _ _ _ ⟨A, G, _, _, _, _, _, _, _, rfl, Rm9, I.drop ⟨f0, f1⟩, hl, fun _ => rfl, rfl⟩
theorem QRE_safe {post : Int → Prop} (R : reIC kd an ai al ar mX35_said mX35_rules mX35_strata mX35_needs mX35_safe mX35_circle mX35_known mX35_holds mX35_rounds mX35_counts mX35_roundCount mX35_last mX35_next mX35_values mX35_coming mX35_counting mX35_gathering mX35_together mX35_held mX35_work mX35_large mX83_head mX83_parts mX83_kind mX83_variable mX84_sort mX84_name mX84_x mX84_y mJ1_modCount mJ2_elementData mJ2_size mJ4_words mJ4_wordsInUse mJ4_sizeIsSticky sa x l0 mb kz S) (h : post (rqSafe r S)) : wpRE_X35_safe post kd an ar mX35_rules mX83_head mX83_parts mX83_kind mX83_variable mX84_sort mX84_x mX84_y mJ2_elementData mJ2_size x r := by
  obtain ⟨A, G, sd, hd, ki, fo, ln, pt, n, rfl, Rm, I, hl, hk, rfl⟩ := R
  obtain ⟨⟨H, rF⟩, ⟨e0, F, H_, Li, Ro, Pa, R, mo⟩, _⟩ := Rm
  obtain ⟨⟨rSd, rH, rR⟩, _⟩ := id rF
  refine CRE_safe I rR (rx_kd H 10 0 (by decide) (by decide)) R (fun f => ?_) (fun f z => ?_) (fun f z => ?_)
  · have e : rqSafe r (sd, hd, ki, fo, ln, pt, n) = -1 := if_neg f
    rw [e] at h; exact h
  · have e : rqSafe r (sd, hd, ki, fo, ln, pt, n) = 1 := (if_pos f).trans (pif_t z)
    rw [e] at h; exact h
  · have e : rqSafe r (sd, hd, ki, fo, ln, pt, n) = 0 := (if_pos f).trans (pif_f z)
    rw [e] at h; exact h
theorem QRE_run {post : Int → (Nat → Nat) → (Nat → Nat) → (Nat → Int → Int) → (Nat → Int → Int) → (Nat → Int) → (Nat → Int) → (Nat → Int) → (Nat → Option Nat) → (Nat → Option Nat) → (Nat → Int) → (Nat → Int) → (Nat → Option Nat) → (Nat → Int) → (Nat → Int) → Prop} (R : reIC kd an ai al ar mX35_said mX35_rules mX35_strata mX35_needs mX35_safe mX35_circle mX35_known mX35_holds mX35_rounds mX35_counts mX35_roundCount mX35_last mX35_next mX35_values mX35_coming mX35_counting mX35_gathering mX35_together mX35_held mX35_work mX35_large mX83_head mX83_parts mX83_kind mX83_variable mX84_sort mX84_name mX84_x mX84_y mJ1_modCount mJ2_elementData mJ2_size mJ4_words mJ4_wordsInUse mJ4_sizeIsSticky sa x l0 mb kz S) (hC : kz = 0 → 2550 ≤ MC) (hS : kz = 0 → 5100 ≤ MS) (h : ∀ kd9 an9 ai9 al9 ci9 kn9 rc9 la9 ne9 wo9 lg9 wd9 iu9 sk9, reIC kd9 an9 ai9 al9 ar mX35_said mX35_rules mX35_strata mX35_needs mX35_safe ci9 kn9 mX35_holds mX35_rounds mX35_counts rc9 la9 ne9 mX35_values mX35_coming mX35_counting mX35_gathering mX35_together mX35_held wo9 lg9 mX83_head mX83_parts mX83_kind mX83_variable mX84_sort mX84_name mX84_x mX84_y mJ1_modCount mJ2_elementData mJ2_size wd9 iu9 sk9 sa x l0 mb 1 S → post (rqRun S) kd9 an9 ai9 al9 ci9 kn9 rc9 la9 ne9 wo9 lg9 wd9 iu9 sk9) : wpRE_X35_run MC MS post kd an ai al ar mX35_said mX35_rules mX35_strata mX35_needs mX35_safe mX35_circle mX35_known mX35_holds mX35_rounds mX35_counts mX35_roundCount mX35_last mX35_next mX35_values mX35_coming mX35_counting mX35_gathering mX35_together mX35_held mX35_work mX35_large mX83_head mX83_parts mX83_kind mX83_variable mX84_sort mX84_name mX84_x mX84_y mJ2_elementData mJ2_size mJ4_words mJ4_wordsInUse mJ4_sizeIsSticky x  := by
  obtain ⟨A, G, sd, hd, ki, fo, ln, pt, n, rfl, Rm, I, hl, hk, rfl⟩ := R
  exact CRE_run (fun z => hC (hk z)) (fun z => hS (hk z)) I Rm (fun kd9 an9 ai9 al9 ci9 kn9 rc9 la9 ne9 wo9 lg9 wd9 iu9 sk9 Rm9 kz9 => h _ _ _ _ _ _ _ _ _ _ _ _ _ _ ⟨A, G, _, _, _, _, _, _, _, rfl, Rm9, I, hl, fun z => absurd z kz9, rfl⟩)
theorem QRE_stratum {post : Int → (Nat → Nat) → (Nat → Nat) → (Nat → Int → Int) → (Nat → Int → Int) → (Nat → Int) → (Nat → Int) → (Nat → Int) → (Nat → Option Nat) → (Nat → Option Nat) → (Nat → Int) → (Nat → Int) → (Nat → Option Nat) → (Nat → Int) → (Nat → Int) → Prop} (R : reIC kd an ai al ar mX35_said mX35_rules mX35_strata mX35_needs mX35_safe mX35_circle mX35_known mX35_holds mX35_rounds mX35_counts mX35_roundCount mX35_last mX35_next mX35_values mX35_coming mX35_counting mX35_gathering mX35_together mX35_held mX35_work mX35_large mX83_head mX83_parts mX83_kind mX83_variable mX84_sort mX84_name mX84_x mX84_y mJ1_modCount mJ2_elementData mJ2_size mJ4_words mJ4_wordsInUse mJ4_sizeIsSticky sa x l0 mb kz S) (hC : kz = 0 → 2550 ≤ MC) (hS : kz = 0 → 5100 ≤ MS) (h : ∀ kd9 an9 ai9 al9 ci9 kn9 rc9 la9 ne9 wo9 lg9 wd9 iu9 sk9, reIC kd9 an9 ai9 al9 ar mX35_said mX35_rules mX35_strata mX35_needs mX35_safe ci9 kn9 mX35_holds mX35_rounds mX35_counts rc9 la9 ne9 mX35_values mX35_coming mX35_counting mX35_gathering mX35_together mX35_held wo9 lg9 mX83_head mX83_parts mX83_kind mX83_variable mX84_sort mX84_name mX84_x mX84_y mJ1_modCount mJ2_elementData mJ2_size wd9 iu9 sk9 sa x l0 mb (pif (0 ≤ a ∧ a < 16) 1 kz) S → post (rqStr a S) kd9 an9 ai9 al9 ci9 kn9 rc9 la9 ne9 wo9 lg9 wd9 iu9 sk9) : wpRE_X35_stratum MC MS post kd an ai al ar mX35_said mX35_rules mX35_strata mX35_needs mX35_safe mX35_circle mX35_known mX35_holds mX35_rounds mX35_counts mX35_roundCount mX35_last mX35_next mX35_values mX35_coming mX35_counting mX35_gathering mX35_together mX35_held mX35_work mX35_large mX83_head mX83_parts mX83_kind mX83_variable mX84_sort mX84_name mX84_x mX84_y mJ2_elementData mJ2_size mJ4_words mJ4_wordsInUse mJ4_sizeIsSticky x a := by
  obtain ⟨A, G, sd, hd, ki, fo, ln, pt, n, rfl, Rm, I, hl, hk, rfl⟩ := R
  refine CRE_stratum (fun z => hC (hk z)) (fun z => hS (hk z)) I Rm (fun f => ?_) (fun f kd9 an9 ai9 al9 ci9 kn9 rc9 la9 ne9 wo9 lg9 wd9 iu9 sk9 Rm9 kz9 => h _ _ _ _ _ _ _ _ _ _ _ _ _ _ ⟨A, G, _, _, _, _, _, _, _, rfl, Rm9, I, hl, fun z => absurd z kz9, rfl⟩)
  have e : rqStr a (sd, hd, ki, fo, ln, pt, n) = -1 := if_neg f
  rw [e] at h
  exact h _ _ _ _ _ _ _ _ _ _ _ _ _ _ ⟨A, G, _, _, _, _, _, _, _, rfl, Rm, I, hl, fun z => (pif_f f).trans (hk z), rfl⟩
theorem QRE_holds {post : Int → (Nat → Nat) → (Nat → Nat) → (Nat → Int → Int) → (Nat → Int → Int) → (Nat → Int) → (Nat → Int) → (Nat → Int) → (Nat → Option Nat) → (Nat → Option Nat) → (Nat → Int) → (Nat → Int) → (Nat → Option Nat) → (Nat → Int) → (Nat → Int) → Prop} (R : reIC kd an ai al ar mX35_said mX35_rules mX35_strata mX35_needs mX35_safe mX35_circle mX35_known mX35_holds mX35_rounds mX35_counts mX35_roundCount mX35_last mX35_next mX35_values mX35_coming mX35_counting mX35_gathering mX35_together mX35_held mX35_work mX35_large mX83_head mX83_parts mX83_kind mX83_variable mX84_sort mX84_name mX84_x mX84_y mJ1_modCount mJ2_elementData mJ2_size mJ4_words mJ4_wordsInUse mJ4_sizeIsSticky sa x l0 mb kz S) (hC : kz = 0 → 2550 ≤ MC) (hS : kz = 0 → 5100 ≤ MS) (h : ∀ kd9 an9 ai9 al9 ci9 kn9 rc9 la9 ne9 wo9 lg9 wd9 iu9 sk9, reIC kd9 an9 ai9 al9 ar mX35_said mX35_rules mX35_strata mX35_needs mX35_safe ci9 kn9 mX35_holds mX35_rounds mX35_counts rc9 la9 ne9 mX35_values mX35_coming mX35_counting mX35_gathering mX35_together mX35_held wo9 lg9 mX83_head mX83_parts mX83_kind mX83_variable mX84_sort mX84_name mX84_x mX84_y mJ1_modCount mJ2_elementData mJ2_size wd9 iu9 sk9 sa x l0 mb (pif (reFc a b c) 1 kz) S → post (rqHol a b c S) kd9 an9 ai9 al9 ci9 kn9 rc9 la9 ne9 wo9 lg9 wd9 iu9 sk9) : wpRE_X35_holds MC MS post kd an ai al ar mX35_said mX35_rules mX35_strata mX35_needs mX35_safe mX35_circle mX35_known mX35_holds mX35_rounds mX35_counts mX35_roundCount mX35_last mX35_next mX35_values mX35_coming mX35_counting mX35_gathering mX35_together mX35_held mX35_work mX35_large mX83_head mX83_parts mX83_kind mX83_variable mX84_sort mX84_name mX84_x mX84_y mJ2_elementData mJ2_size mJ4_words mJ4_wordsInUse mJ4_sizeIsSticky x a b c := by
  obtain ⟨A, G, sd, hd, ki, fo, ln, pt, n, rfl, Rm, I, hl, hk, rfl⟩ := R
  refine CRE_holds (fun z => hC (hk z)) (fun z => hS (hk z)) I Rm (fun f => ?_) (fun f kd9 an9 ai9 al9 ci9 kn9 rc9 la9 ne9 wo9 lg9 wd9 iu9 sk9 Rm9 kz9 => h _ _ _ _ _ _ _ _ _ _ _ _ _ _ ⟨A, G, _, _, _, _, _, _, _, rfl, Rm9, I, hl, fun z => absurd z kz9, rfl⟩)
  have e : rqHol a b c (sd, hd, ki, fo, ln, pt, n) = -1 := pif_f f
  rw [e] at h
  exact h _ _ _ _ _ _ _ _ _ _ _ _ _ _ ⟨A, G, _, _, _, _, _, _, _, rfl, Rm, I, hl, fun z => (pif_f f).trans (hk z), rfl⟩
theorem QRE_round {post : Int → (Nat → Nat) → (Nat → Nat) → (Nat → Int → Int) → (Nat → Int → Int) → (Nat → Int) → (Nat → Int) → (Nat → Int) → (Nat → Option Nat) → (Nat → Option Nat) → (Nat → Int) → (Nat → Int) → (Nat → Option Nat) → (Nat → Int) → (Nat → Int) → Prop} (R : reIC kd an ai al ar mX35_said mX35_rules mX35_strata mX35_needs mX35_safe mX35_circle mX35_known mX35_holds mX35_rounds mX35_counts mX35_roundCount mX35_last mX35_next mX35_values mX35_coming mX35_counting mX35_gathering mX35_together mX35_held mX35_work mX35_large mX83_head mX83_parts mX83_kind mX83_variable mX84_sort mX84_name mX84_x mX84_y mJ1_modCount mJ2_elementData mJ2_size mJ4_words mJ4_wordsInUse mJ4_sizeIsSticky sa x l0 mb kz S) (hC : kz = 0 → 2550 ≤ MC) (hS : kz = 0 → 5100 ≤ MS) (h : ∀ kd9 an9 ai9 al9 ci9 kn9 rc9 la9 ne9 wo9 lg9 wd9 iu9 sk9, reIC kd9 an9 ai9 al9 ar mX35_said mX35_rules mX35_strata mX35_needs mX35_safe ci9 kn9 mX35_holds mX35_rounds mX35_counts rc9 la9 ne9 mX35_values mX35_coming mX35_counting mX35_gathering mX35_together mX35_held wo9 lg9 mX83_head mX83_parts mX83_kind mX83_variable mX84_sort mX84_name mX84_x mX84_y mJ1_modCount mJ2_elementData mJ2_size wd9 iu9 sk9 sa x l0 mb (pif (reFc a b c) 1 kz) S → post (rqRou a b c S) kd9 an9 ai9 al9 ci9 kn9 rc9 la9 ne9 wo9 lg9 wd9 iu9 sk9) : wpRE_X35_round MC MS post kd an ai al ar mX35_said mX35_rules mX35_strata mX35_needs mX35_safe mX35_circle mX35_known mX35_holds mX35_rounds mX35_counts mX35_roundCount mX35_last mX35_next mX35_values mX35_coming mX35_counting mX35_gathering mX35_together mX35_held mX35_work mX35_large mX83_head mX83_parts mX83_kind mX83_variable mX84_sort mX84_name mX84_x mX84_y mJ2_elementData mJ2_size mJ4_words mJ4_wordsInUse mJ4_sizeIsSticky x a b c := by
  obtain ⟨A, G, sd, hd, ki, fo, ln, pt, n, rfl, Rm, I, hl, hk, rfl⟩ := R
  refine CRE_round (fun z => hC (hk z)) (fun z => hS (hk z)) I Rm (fun f => ?_) (fun f kd9 an9 ai9 al9 ci9 kn9 rc9 la9 ne9 wo9 lg9 wd9 iu9 sk9 Rm9 kz9 => h _ _ _ _ _ _ _ _ _ _ _ _ _ _ ⟨A, G, _, _, _, _, _, _, _, rfl, Rm9, I, hl, fun z => absurd z kz9, rfl⟩)
  have e : rqRou a b c (sd, hd, ki, fo, ln, pt, n) = -1 := pif_f f
  rw [e] at h
  exact h _ _ _ _ _ _ _ _ _ _ _ _ _ _ ⟨A, G, _, _, _, _, _, _, _, rfl, Rm, I, hl, fun z => (pif_f f).trans (hk z), rfl⟩
theorem QRE_counts {post : Int → (Nat → Nat) → (Nat → Nat) → (Nat → Int → Int) → (Nat → Int → Int) → (Nat → Int) → (Nat → Int) → (Nat → Int) → (Nat → Option Nat) → (Nat → Option Nat) → (Nat → Int) → (Nat → Int) → (Nat → Option Nat) → (Nat → Int) → (Nat → Int) → Prop} (R : reIC kd an ai al ar mX35_said mX35_rules mX35_strata mX35_needs mX35_safe mX35_circle mX35_known mX35_holds mX35_rounds mX35_counts mX35_roundCount mX35_last mX35_next mX35_values mX35_coming mX35_counting mX35_gathering mX35_together mX35_held mX35_work mX35_large mX83_head mX83_parts mX83_kind mX83_variable mX84_sort mX84_name mX84_x mX84_y mJ1_modCount mJ2_elementData mJ2_size mJ4_words mJ4_wordsInUse mJ4_sizeIsSticky sa x l0 mb kz S) (hC : kz = 0 → 2550 ≤ MC) (hS : kz = 0 → 5100 ≤ MS) (h : ∀ kd9 an9 ai9 al9 ci9 kn9 rc9 la9 ne9 wo9 lg9 wd9 iu9 sk9, reIC kd9 an9 ai9 al9 ar mX35_said mX35_rules mX35_strata mX35_needs mX35_safe ci9 kn9 mX35_holds mX35_rounds mX35_counts rc9 la9 ne9 mX35_values mX35_coming mX35_counting mX35_gathering mX35_together mX35_held wo9 lg9 mX83_head mX83_parts mX83_kind mX83_variable mX84_sort mX84_name mX84_x mX84_y mJ1_modCount mJ2_elementData mJ2_size wd9 iu9 sk9 sa x l0 mb (pif (reFc a b c) 1 kz) S → post (rqCou a b c S) kd9 an9 ai9 al9 ci9 kn9 rc9 la9 ne9 wo9 lg9 wd9 iu9 sk9) : wpRE_X35_counts MC MS post kd an ai al ar mX35_said mX35_rules mX35_strata mX35_needs mX35_safe mX35_circle mX35_known mX35_holds mX35_rounds mX35_counts mX35_roundCount mX35_last mX35_next mX35_values mX35_coming mX35_counting mX35_gathering mX35_together mX35_held mX35_work mX35_large mX83_head mX83_parts mX83_kind mX83_variable mX84_sort mX84_name mX84_x mX84_y mJ2_elementData mJ2_size mJ4_words mJ4_wordsInUse mJ4_sizeIsSticky x a b c := by
  obtain ⟨A, G, sd, hd, ki, fo, ln, pt, n, rfl, Rm, I, hl, hk, rfl⟩ := R
  refine CRE_counts (fun z => hC (hk z)) (fun z => hS (hk z)) I Rm (fun f => ?_) (fun f kd9 an9 ai9 al9 ci9 kn9 rc9 la9 ne9 wo9 lg9 wd9 iu9 sk9 Rm9 kz9 => h _ _ _ _ _ _ _ _ _ _ _ _ _ _ ⟨A, G, _, _, _, _, _, _, _, rfl, Rm9, I, hl, fun z => absurd z kz9, rfl⟩)
  have e : rqCou a b c (sd, hd, ki, fo, ln, pt, n) = -1 := pif_f f
  rw [e] at h
  exact h _ _ _ _ _ _ _ _ _ _ _ _ _ _ ⟨A, G, _, _, _, _, _, _, _, rfl, Rm, I, hl, fun z => (pif_f f).trans (hk z), rfl⟩
theorem QRE_row {post : Int → (Nat → Nat) → (Nat → Nat) → (Nat → Int → Int) → (Nat → Int → Int) → (Nat → Int) → (Nat → Int) → (Nat → Int) → (Nat → Option Nat) → (Nat → Option Nat) → (Nat → Int) → (Nat → Int) → (Nat → Option Nat) → (Nat → Int) → (Nat → Int) → Prop} (R : reIC kd an ai al ar mX35_said mX35_rules mX35_strata mX35_needs mX35_safe mX35_circle mX35_known mX35_holds mX35_rounds mX35_counts mX35_roundCount mX35_last mX35_next mX35_values mX35_coming mX35_counting mX35_gathering mX35_together mX35_held mX35_work mX35_large mX83_head mX83_parts mX83_kind mX83_variable mX84_sort mX84_name mX84_x mX84_y mJ1_modCount mJ2_elementData mJ2_size mJ4_words mJ4_wordsInUse mJ4_sizeIsSticky sa x l0 mb kz S) (hC : kz = 0 → 2550 ≤ MC) (hS : kz = 0 → 5100 ≤ MS) (hx : -2147483648 ≤ a) (h : ∀ kd9 an9 ai9 al9 ci9 kn9 rc9 la9 ne9 wo9 lg9 wd9 iu9 sk9, reIC kd9 an9 ai9 al9 ar mX35_said mX35_rules mX35_strata mX35_needs mX35_safe ci9 kn9 mX35_holds mX35_rounds mX35_counts rc9 la9 ne9 mX35_values mX35_coming mX35_counting mX35_gathering mX35_together mX35_held wo9 lg9 mX83_head mX83_parts mX83_kind mX83_variable mX84_sort mX84_name mX84_x mX84_y mJ1_modCount mJ2_elementData mJ2_size wd9 iu9 sk9 sa x l0 mb 1 S → post (rqRow a S) kd9 an9 ai9 al9 ci9 kn9 rc9 la9 ne9 wo9 lg9 wd9 iu9 sk9) : wpRE_X35_row MC MS post kd an ai al ar mX35_said mX35_rules mX35_strata mX35_needs mX35_safe mX35_circle mX35_known mX35_holds mX35_rounds mX35_counts mX35_roundCount mX35_last mX35_next mX35_values mX35_coming mX35_counting mX35_gathering mX35_together mX35_held mX35_work mX35_large mX83_head mX83_parts mX83_kind mX83_variable mX84_sort mX84_name mX84_x mX84_y mJ2_elementData mJ2_size mJ4_words mJ4_wordsInUse mJ4_sizeIsSticky x a := by
  obtain ⟨A, G, sd, hd, ki, fo, ln, pt, n, rfl, Rm, I, hl, hk, rfl⟩ := R
  exact CRE_row (fun z => hC (hk z)) (fun z => hS (hk z)) I Rm hx (fun kd9 an9 ai9 al9 ci9 kn9 rc9 la9 ne9 wo9 lg9 wd9 iu9 sk9 Rm9 kz9 => h _ _ _ _ _ _ _ _ _ _ _ _ _ _ ⟨A, G, _, _, _, _, _, _, _, rfl, Rm9, I, hl, fun z => absurd z kz9, rfl⟩)
theorem QRE_size {post : Int → (Nat → Nat) → (Nat → Nat) → (Nat → Int → Int) → (Nat → Int → Int) → (Nat → Int) → (Nat → Int) → (Nat → Int) → (Nat → Option Nat) → (Nat → Option Nat) → (Nat → Int) → (Nat → Int) → (Nat → Option Nat) → (Nat → Int) → (Nat → Int) → Prop} (R : reIC kd an ai al ar mX35_said mX35_rules mX35_strata mX35_needs mX35_safe mX35_circle mX35_known mX35_holds mX35_rounds mX35_counts mX35_roundCount mX35_last mX35_next mX35_values mX35_coming mX35_counting mX35_gathering mX35_together mX35_held mX35_work mX35_large mX83_head mX83_parts mX83_kind mX83_variable mX84_sort mX84_name mX84_x mX84_y mJ1_modCount mJ2_elementData mJ2_size mJ4_words mJ4_wordsInUse mJ4_sizeIsSticky sa x l0 mb kz S) (hC : kz = 0 → 2550 ≤ MC) (hS : kz = 0 → 5100 ≤ MS) (h : ∀ kd9 an9 ai9 al9 ci9 kn9 rc9 la9 ne9 wo9 lg9 wd9 iu9 sk9, reIC kd9 an9 ai9 al9 ar mX35_said mX35_rules mX35_strata mX35_needs mX35_safe ci9 kn9 mX35_holds mX35_rounds mX35_counts rc9 la9 ne9 mX35_values mX35_coming mX35_counting mX35_gathering mX35_together mX35_held wo9 lg9 mX83_head mX83_parts mX83_kind mX83_variable mX84_sort mX84_name mX84_x mX84_y mJ1_modCount mJ2_elementData mJ2_size wd9 iu9 sk9 sa x l0 mb 1 S → post (rqSiz S) kd9 an9 ai9 al9 ci9 kn9 rc9 la9 ne9 wo9 lg9 wd9 iu9 sk9) : wpRE_X35_size MC MS post kd an ai al ar mX35_said mX35_rules mX35_strata mX35_needs mX35_safe mX35_circle mX35_known mX35_holds mX35_rounds mX35_counts mX35_roundCount mX35_last mX35_next mX35_values mX35_coming mX35_counting mX35_gathering mX35_together mX35_held mX35_work mX35_large mX83_head mX83_parts mX83_kind mX83_variable mX84_sort mX84_name mX84_x mX84_y mJ2_elementData mJ2_size mJ4_words mJ4_wordsInUse mJ4_sizeIsSticky x  := by
  obtain ⟨A, G, sd, hd, ki, fo, ln, pt, n, rfl, Rm, I, hl, hk, rfl⟩ := R
  exact CRE_size (fun z => hC (hk z)) (fun z => hS (hk z)) I Rm (fun kd9 an9 ai9 al9 ci9 kn9 rc9 la9 ne9 wo9 lg9 wd9 iu9 sk9 Rm9 kz9 => h _ _ _ _ _ _ _ _ _ _ _ _ _ _ ⟨A, G, _, _, _, _, _, _, _, rfl, Rm9, I, hl, fun z => absurd z kz9, rfl⟩)
end

/-! RuleEngine: the reference (X55) does what a call does -/
def reIR (sd hd kd fo ln pt : Int → Int) (n kn : Int) (rn gv st : Int → Int) (ci tn lg : Int) (S : reT) : Prop := S = (sd, hd, kd, fo, ln, pt, n) ∧ reI hd kd fo ln pt n ∧ (¬ kn = 0 → reKn sd hd kd fo ln pt n rn gv st ci tn lg)
section
variable {hd kd fo ln pt st rn fr gv vs pn po mn sm lo hi sd nd cm : Int → Int} {n r k a b c x y z v now m ly wk ci kn tn lg pc : Int} {S : reT}
theorem Q55_fact {post : Int → (Int → Int) → Int → Prop} (R : reIR sd hd kd fo ln pt n kn rn gv st ci tn lg S) (h : ∀ sd' kn', reIR sd' hd kd fo ln pt n kn' rn gv st ci tn lg ((rqFact a b c S).2) → post (rqFact a b c S).1 sd' kn') : wpX55_fact post sd kn a b c := by
  obtain ⟨rfl, I, K⟩ := R
  refine T55_fact (fun f => ?_) (fun f z => ?_) (fun f z => ?_)
  · have e : rqFact a b c (sd, hd, kd, fo, ln, pt, n) = (-1, (sd, hd, kd, fo, ln, pt, n)) := pif_f f
    rw [e] at h
    exact h _ _ ⟨rfl, I, K⟩
  · have e : rqFact a b c (sd, hd, kd, fo, ln, pt, n) = (0, (sd, hd, kd, fo, ln, pt, n)) := (pif_t f).trans (if_neg z)
    rw [e] at h
    exact h _ _ ⟨rfl, I, K⟩
  · have e : rqFact a b c (sd, hd, kd, fo, ln, pt, n) = (1, (updI sd (reCd a b c) 1, hd, kd, fo, ln, pt, n)) := (pif_t f).trans (if_pos z)
    rw [e] at h
    exact h _ _ ⟨rfl, I, fun w => absurd rfl w⟩
theorem Q55_remove {post : Int → (Int → Int) → Int → Prop} (R : reIR sd hd kd fo ln pt n kn rn gv st ci tn lg S) (h : ∀ sd' kn', reIR sd' hd kd fo ln pt n kn' rn gv st ci tn lg ((rqRemove a b c S).2) → post (rqRemove a b c S).1 sd' kn') : wpX55_remove post sd kn a b c := by
  obtain ⟨rfl, I, K⟩ := R
  refine T55_remove (fun f => ?_) (fun f z => ?_) (fun f z => ?_)
  · have e : rqRemove a b c (sd, hd, kd, fo, ln, pt, n) = (-1, (sd, hd, kd, fo, ln, pt, n)) := pif_f f
    rw [e] at h
    exact h _ _ ⟨rfl, I, K⟩
  · have e : rqRemove a b c (sd, hd, kd, fo, ln, pt, n) = (0, (sd, hd, kd, fo, ln, pt, n)) := (pif_t f).trans (if_pos z)
    rw [e] at h
    exact h _ _ ⟨rfl, I, K⟩
  · have e : rqRemove a b c (sd, hd, kd, fo, ln, pt, n) = (1, (updI sd (reCd a b c) 0, hd, kd, fo, ln, pt, n)) := (pif_t f).trans (if_neg z)
    rw [e] at h
    exact h _ _ ⟨rfl, I, fun w => absurd rfl w⟩
theorem Q55_rule {post : Int → (Int → Int) → (Int → Int) → (Int → Int) → (Int → Int) → Int → Int → Prop} (R : reIR sd hd kd fo ln pt n kn rn gv st ci tn lg S) (h : ∀ hd' kd' fo' ln' n' kn', reIR sd hd' kd' fo' ln' pt n' kn' rn gv st ci tn lg ((rqRule a x y S).2) → post (rqRule a x y S).1 hd' kd' fo' ln' n' kn') : wpX55_rule post hd kd fo ln n kn a x y := by
  obtain ⟨rfl, I, K⟩ := R
  refine T55_rule I.1 (fun f => ?_) (fun f z => ?_) (fun f z => ?_)
  · have e : rqRule a x y (sd, hd, kd, fo, ln, pt, n) = (-1, (sd, hd, kd, fo, ln, pt, n)) := pif_f f
    rw [e] at h
    exact h _ _ _ _ _ _ ⟨rfl, I, K⟩
  · have e : rqRule a x y (sd, hd, kd, fo, ln, pt, n) = (-3, (sd, hd, kd, fo, ln, pt, n)) := (pif_t f).trans (if_pos z)
    rw [e] at h
    exact h _ _ _ _ _ _ ⟨rfl, I, K⟩
  · have e : rqRule a x y (sd, hd, kd, fo, ln, pt, n) = (n, (sd, updI (updI (updI hd (3 * n) a) (3 * n + 1) x) (3 * n + 2) y, updI kd n (-1), updI fo n 0, updI ln n 0, pt, n + 1)) := (pif_t f).trans (if_neg (by omega))
    rw [e] at h
    exact h _ _ _ _ _ _ ⟨rfl, I.rule f z, fun w => absurd rfl w⟩
theorem Q55_body {post : Int → (Int → Int) → (Int → Int) → Int → Prop} (R : reIR sd hd kd fo ln pt n kn rn gv st ci tn lg S) (h : ∀ ln' pt' kn', reIR sd hd kd fo ln' pt' n kn' rn gv st ci tn lg ((rqPart 16 r (if z = 0 then 0 else 1) a x y S).2) → post (rqPart 16 r (if z = 0 then 0 else 1) a x y S).1 ln' pt' kn') : wpX55_body post ln pt n kn r a x y z := by
  obtain ⟨rfl, I, K⟩ := R
  refine T55_body I (fun f => ?_) (fun f l => ?_) (fun f l => ?_)
  · have e : rqPart 16 r (if z = 0 then 0 else 1) a x y (sd, hd, kd, fo, ln, pt, n) = (-1, (sd, hd, kd, fo, ln, pt, n)) := pif_f f
    rw [e] at h
    exact h _ _ _ ⟨rfl, I, K⟩
  · have e : rqPart 16 r (if z = 0 then 0 else 1) a x y (sd, hd, kd, fo, ln, pt, n) = (-3, (sd, hd, kd, fo, ln, pt, n)) := (pif_t f).trans (if_pos l)
    rw [e] at h
    exact h _ _ _ ⟨rfl, I, K⟩
  · have e : rqPart 16 r (if z = 0 then 0 else 1) a x y (sd, hd, kd, fo, ln, pt, n) = (ln r + 1, (sd, hd, kd, fo, updI ln r (ln r + 1), updI (updI (updI (updI pt (20 * r + 4 * ln r) (if z = 0 then 0 else 1)) (20 * r + 4 * ln r + 1) a) (20 * r + 4 * ln r + 2) x) (20 * r + 4 * ln r + 3) y, n)) := (pif_t f).trans (if_neg (by omega))
    rw [e] at h
    exact h _ _ _ ⟨rfl, I.part f.1 (by split <;> decide) ⟨f.2.1, f.2.2⟩ l, fun w => absurd rfl w⟩
theorem Q55_filter {post : Int → (Int → Int) → (Int → Int) → Int → Prop} (R : reIR sd hd kd fo ln pt n kn rn gv st ci tn lg S) (h : ∀ ln' pt' kn', reIR sd hd kd fo ln' pt' n kn' rn gv st ci tn lg ((rqPart 3 r 2 a x y S).2) → post (rqPart 3 r 2 a x y S).1 ln' pt' kn') : wpX55_filter post ln pt n kn r a x y := by
  obtain ⟨rfl, I, K⟩ := R
  refine T55_filter I (fun f => ?_) (fun f l => ?_) (fun f l => ?_)
  · have e : rqPart 3 r 2 a x y (sd, hd, kd, fo, ln, pt, n) = (-1, (sd, hd, kd, fo, ln, pt, n)) := pif_f f
    rw [e] at h
    exact h _ _ _ ⟨rfl, I, K⟩
  · have e : rqPart 3 r 2 a x y (sd, hd, kd, fo, ln, pt, n) = (-3, (sd, hd, kd, fo, ln, pt, n)) := (pif_t f).trans (if_pos l)
    rw [e] at h
    exact h _ _ _ ⟨rfl, I, K⟩
  · have e : rqPart 3 r 2 a x y (sd, hd, kd, fo, ln, pt, n) = (ln r + 1, (sd, hd, kd, fo, updI ln r (ln r + 1), updI (updI (updI (updI pt (20 * r + 4 * ln r) 2) (20 * r + 4 * ln r + 1) a) (20 * r + 4 * ln r + 2) x) (20 * r + 4 * ln r + 3) y, n)) := (pif_t f).trans (if_neg (by omega))
    rw [e] at h
    exact h _ _ _ ⟨rfl, I.part f.1 (by decide) ⟨⟨f.2.1.1, by omega⟩, f.2.2⟩ l, fun w => absurd rfl w⟩
theorem Q55_aggregate {post : Int → (Int → Int) → (Int → Int) → Int → Prop} (R : reIR sd hd kd fo ln pt n kn rn gv st ci tn lg S) (h : ∀ kd' fo' kn', reIR sd hd kd' fo' ln pt n kn' rn gv st ci tn lg ((rqAgg r k v S).2) → post (rqAgg r k v S).1 kd' fo' kn') : wpX55_aggregate post kd fo n kn r k v := by
  obtain ⟨rfl, I, K⟩ := R
  refine T55_aggregate I.1.2 (fun f => ?_) (fun f => ?_)
  · have e : rqAgg r k v (sd, hd, kd, fo, ln, pt, n) = (-1, (sd, hd, kd, fo, ln, pt, n)) := pif_f f
    rw [e] at h
    exact h _ _ _ ⟨rfl, I, K⟩
  · have e : rqAgg r k v (sd, hd, kd, fo, ln, pt, n) = (1, (sd, hd, updI kd r k, updI fo r v, ln, pt, n)) := pif_t f
    rw [e] at h
    exact h _ _ _ ⟨rfl, I.agg f, fun w => absurd rfl w⟩
theorem Q55_drop {post : Int → (Int → Int) → (Int → Int) → (Int → Int) → (Int → Int) → (Int → Int) → Int → Int → Prop} (R : reIR sd hd kd fo ln pt n kn rn gv st ci tn lg S) (h : ∀ hd' kd' fo' ln' pt' n' kn', reIR sd hd' kd' fo' ln' pt' n' kn' rn gv st ci tn lg ((rqDrop r S).2) → post (rqDrop r S).1 hd' kd' fo' ln' pt' n' kn') : wpX55_drop post hd kd fo ln pt n kn r := by
  obtain ⟨rfl, I, K⟩ := R
  refine T55_drop I.1 (fun f => ?_) (fun f0 f1 => ?_)
  · have e : rqDrop r (sd, hd, kd, fo, ln, pt, n) = (-1, (sd, hd, kd, fo, ln, pt, n)) := if_neg f
    rw [e] at h
    exact h _ _ _ _ _ _ _ ⟨rfl, I, K⟩
  · have e : rqDrop r (sd, hd, kd, fo, ln, pt, n) = (n - 1, (sd, reSh hd 3 r (n - 1), reSh kd 1 r (n - 1), reSh fo 1 r (n - 1), reSh ln 1 r (n - 1), reSh pt 20 r (n - 1), n - 1)) := if_pos ⟨f0, f1⟩
    rw [e] at h
    exact h _ _ _ _ _ _ _ ⟨rfl, I.drop ⟨f0, f1⟩, fun w => absurd rfl w⟩
theorem Q55_safe {post : Int → Prop} (R : reIR sd hd kd fo ln pt n kn rn gv st ci tn lg S) (h : post (rqSafe r S)) : wpX55_safe post hd kd fo ln pt n r := by
  obtain ⟨rfl, I, K⟩ := R
  refine T55_safe I (fun f => ?_) (fun f0 f1 z => ?_) (fun f0 f1 z => ?_)
  · have e : rqSafe r (sd, hd, kd, fo, ln, pt, n) = -1 := if_neg f
    rw [e] at h; exact h
  · have e : rqSafe r (sd, hd, kd, fo, ln, pt, n) = 1 := (if_pos ⟨f0, f1⟩).trans (pif_t z)
    rw [e] at h; exact h
  · have e : rqSafe r (sd, hd, kd, fo, ln, pt, n) = 0 := (if_pos ⟨f0, f1⟩).trans (pif_f z)
    rw [e] at h; exact h
theorem Q55_run {post : Int → Int → (Int → Int) → (Int → Int) → (Int → Int) → Int → Int → (Int → Int) → (Int → Int) → (Int → Int) → (Int → Int) → Int → (Int → Int) → Int → (Int → Int) → (Int → Int) → (Int → Int) → (Int → Int) → (Int → Int) → Int → Int → Int → Prop} (R : reIR sd hd kd fo ln pt n kn rn gv st ci tn lg S) (h : ∀ kn' rn' gv' st' ci' tn' nd' cm' vs' pn' pc' po' now' fr' mn' sm' lo' hi' ly' wk' lg', reIR sd hd kd fo ln pt n kn' rn' gv' st' ci' tn' lg' S → post (rqRun S) kn' rn' gv' st' ci' tn' nd' cm' vs' pn' pc' po' now' fr' mn' sm' lo' hi' ly' wk' lg') : wpX55_run post sd hd kd fo ln pt n kn rn gv st ci tn nd cm vs pn pc po now fr mn sm lo hi ly wk lg  := by
  obtain ⟨rfl, I, K⟩ := R
  refine T55_run I K (fun kn' rn' gv' st' ci' tn' nd' cm' vs' pn' pc' po' now' fr' mn' sm' lo' hi' ly' wk' lg' k0 K' => ?_)
  have G := h kn' rn' gv' st' ci' tn' nd' cm' vs' pn' pc' po' now' fr' mn' sm' lo' hi' ly' wk' lg' ⟨rfl, I, fun _ => K'⟩
  obtain ⟨q1, q2, q3, q4, q5, q6⟩ := reKn.rz I K'
  have e : rqRun (sd, hd, kd, fo, ln, pt, n) = if ci' < 0 then (if lg' = 0 then tn' else -4) else -10 - ci' := by
    show (if rzCi hd kd fo ln pt n < 0 then (if (rzAll sd hd kd fo ln pt n).2.2.2 = 0 then (rzAll sd hd kd fo ln pt n).2.2.1 else -4) else -10 - rzCi hd kd fo ln pt n) = _
    rw [q4, q5, q6]
  rw [e] at G
  exact G
theorem Q55_stratum {post : Int → Int → (Int → Int) → (Int → Int) → (Int → Int) → Int → Int → (Int → Int) → (Int → Int) → (Int → Int) → (Int → Int) → Int → (Int → Int) → Int → (Int → Int) → (Int → Int) → (Int → Int) → (Int → Int) → (Int → Int) → Int → Int → Int → Prop} (R : reIR sd hd kd fo ln pt n kn rn gv st ci tn lg S) (h : ∀ kn' rn' gv' st' ci' tn' nd' cm' vs' pn' pc' po' now' fr' mn' sm' lo' hi' ly' wk' lg', reIR sd hd kd fo ln pt n kn' rn' gv' st' ci' tn' lg' S → post (rqStr a S) kn' rn' gv' st' ci' tn' nd' cm' vs' pn' pc' po' now' fr' mn' sm' lo' hi' ly' wk' lg') : wpX55_stratum post sd hd kd fo ln pt n kn rn gv st ci tn nd cm vs pn pc po now fr mn sm lo hi ly wk lg a := by
  obtain ⟨rfl, I, K⟩ := R
  refine T55_stratum I K (fun f => ?_) (fun f kn' rn' gv' st' ci' tn' nd' cm' vs' pn' pc' po' now' fr' mn' sm' lo' hi' ly' wk' lg' k0 K' => ?_)
  · have e : rqStr a (sd, hd, kd, fo, ln, pt, n) = -1 := if_neg f
    rw [e] at h
    exact h _ _ _ _ _ _ _ _ _ _ _ _ _ _ _ _ _ _ _ _ _ ⟨rfl, I, K⟩
  · have G := h kn' rn' gv' st' ci' tn' nd' cm' vs' pn' pc' po' now' fr' mn' sm' lo' hi' ly' wk' lg' ⟨rfl, I, fun _ => K'⟩
    obtain ⟨q1, q2, q3, q4, q5, q6⟩ := reKn.rz I K'
    have e : rqStr a (sd, hd, kd, fo, ln, pt, n) = if ci' < 0 then st' a else -2 := by
      have e1 : rqStr a (sd, hd, kd, fo, ln, pt, n) = if rzCi hd kd fo ln pt n < 0 then rzSt hd kd fo ln pt n a else -2 := if_pos f
      rw [e1, q4, q3 a f.1 f.2]
    rw [e] at G
    exact G
theorem Q55_holds {post : Int → Int → (Int → Int) → (Int → Int) → (Int → Int) → Int → Int → (Int → Int) → (Int → Int) → (Int → Int) → (Int → Int) → Int → (Int → Int) → Int → (Int → Int) → (Int → Int) → (Int → Int) → (Int → Int) → (Int → Int) → Int → Int → Int → Prop} (R : reIR sd hd kd fo ln pt n kn rn gv st ci tn lg S) (h : ∀ kn' rn' gv' st' ci' tn' nd' cm' vs' pn' pc' po' now' fr' mn' sm' lo' hi' ly' wk' lg', reIR sd hd kd fo ln pt n kn' rn' gv' st' ci' tn' lg' S → post (rqHol a b c S) kn' rn' gv' st' ci' tn' nd' cm' vs' pn' pc' po' now' fr' mn' sm' lo' hi' ly' wk' lg') : wpX55_holds post sd hd kd fo ln pt n kn rn gv st ci tn nd cm vs pn pc po now fr mn sm lo hi ly wk lg a b c := by
  obtain ⟨rfl, I, K⟩ := R
  refine T55_holds I K (fun f => ?_) (fun f kn' rn' gv' st' ci' tn' nd' cm' vs' pn' pc' po' now' fr' mn' sm' lo' hi' ly' wk' lg' k0 K' => ?_)
  · have e : rqHol a b c (sd, hd, kd, fo, ln, pt, n) = -1 := pif_f f
    rw [e] at h
    exact h _ _ _ _ _ _ _ _ _ _ _ _ _ _ _ _ _ _ _ _ _ ⟨rfl, I, K⟩
  · have G := h kn' rn' gv' st' ci' tn' nd' cm' vs' pn' pc' po' now' fr' mn' sm' lo' hi' ly' wk' lg' ⟨rfl, I, fun _ => K'⟩
    obtain ⟨q1, q2, q3, q4, q5, q6⟩ := reKn.rz I K'
    have cd := reCd_b f
    have e : rqHol a b c (sd, hd, kd, fo, ln, pt, n) = if ¬ sd (reCd a b c) = 0 then 1 else if 0 ≤ (rzAll sd hd kd fo ln pt n).1 (reCd a b c) then 2 else 0 := pif_t f
    rw [e] at G
    rw [q1 _ cd.1 cd.2]
    exact G
theorem Q55_round {post : Int → Int → (Int → Int) → (Int → Int) → (Int → Int) → Int → Int → (Int → Int) → (Int → Int) → (Int → Int) → (Int → Int) → Int → (Int → Int) → Int → (Int → Int) → (Int → Int) → (Int → Int) → (Int → Int) → (Int → Int) → Int → Int → Int → Prop} (R : reIR sd hd kd fo ln pt n kn rn gv st ci tn lg S) (h : ∀ kn' rn' gv' st' ci' tn' nd' cm' vs' pn' pc' po' now' fr' mn' sm' lo' hi' ly' wk' lg', reIR sd hd kd fo ln pt n kn' rn' gv' st' ci' tn' lg' S → post (rqRou a b c S) kn' rn' gv' st' ci' tn' nd' cm' vs' pn' pc' po' now' fr' mn' sm' lo' hi' ly' wk' lg') : wpX55_round post sd hd kd fo ln pt n kn rn gv st ci tn nd cm vs pn pc po now fr mn sm lo hi ly wk lg a b c := by
  obtain ⟨rfl, I, K⟩ := R
  refine T55_round I K (fun f => ?_) (fun f kn' rn' gv' st' ci' tn' nd' cm' vs' pn' pc' po' now' fr' mn' sm' lo' hi' ly' wk' lg' k0 K' => ?_)
  · have e : rqRou a b c (sd, hd, kd, fo, ln, pt, n) = -1 := pif_f f
    rw [e] at h
    exact h _ _ _ _ _ _ _ _ _ _ _ _ _ _ _ _ _ _ _ _ _ ⟨rfl, I, K⟩
  · have G := h kn' rn' gv' st' ci' tn' nd' cm' vs' pn' pc' po' now' fr' mn' sm' lo' hi' ly' wk' lg' ⟨rfl, I, fun _ => K'⟩
    obtain ⟨q1, q2, q3, q4, q5, q6⟩ := reKn.rz I K'
    have cd := reCd_b f
    have e : rqRou a b c (sd, hd, kd, fo, ln, pt, n) = if (rzAll sd hd kd fo ln pt n).1 (reCd a b c) < 0 then -2 else (rzAll sd hd kd fo ln pt n).1 (reCd a b c) := pif_t f
    rw [e] at G
    rw [q1 _ cd.1 cd.2]
    by_cases z : 0 ≤ (rzAll sd hd kd fo ln pt n).1 (reCd a b c)
    · rw [if_pos z]
      rw [if_neg (by omega)] at G
      exact G
    · rw [if_neg z]
      rw [if_pos (by omega)] at G
      exact G
theorem Q55_counts {post : Int → Int → (Int → Int) → (Int → Int) → (Int → Int) → Int → Int → (Int → Int) → (Int → Int) → (Int → Int) → (Int → Int) → Int → (Int → Int) → Int → (Int → Int) → (Int → Int) → (Int → Int) → (Int → Int) → (Int → Int) → Int → Int → Int → Prop} (R : reIR sd hd kd fo ln pt n kn rn gv st ci tn lg S) (h : ∀ kn' rn' gv' st' ci' tn' nd' cm' vs' pn' pc' po' now' fr' mn' sm' lo' hi' ly' wk' lg', reIR sd hd kd fo ln pt n kn' rn' gv' st' ci' tn' lg' S → post (rqCou a b c S) kn' rn' gv' st' ci' tn' nd' cm' vs' pn' pc' po' now' fr' mn' sm' lo' hi' ly' wk' lg') : wpX55_counts post sd hd kd fo ln pt n kn rn gv st ci tn nd cm vs pn pc po now fr mn sm lo hi ly wk lg a b c := by
  obtain ⟨rfl, I, K⟩ := R
  refine T55_counts I K (fun f => ?_) (fun f kn' rn' gv' st' ci' tn' nd' cm' vs' pn' pc' po' now' fr' mn' sm' lo' hi' ly' wk' lg' k0 K' => ?_)
  · have e : rqCou a b c (sd, hd, kd, fo, ln, pt, n) = -1 := pif_f f
    rw [e] at h
    exact h _ _ _ _ _ _ _ _ _ _ _ _ _ _ _ _ _ _ _ _ _ ⟨rfl, I, K⟩
  · have G := h kn' rn' gv' st' ci' tn' nd' cm' vs' pn' pc' po' now' fr' mn' sm' lo' hi' ly' wk' lg' ⟨rfl, I, fun _ => K'⟩
    obtain ⟨q1, q2, q3, q4, q5, q6⟩ := reKn.rz I K'
    have cd := reCd_b f
    have e : rqCou a b c (sd, hd, kd, fo, ln, pt, n) = (rzAll sd hd kd fo ln pt n).2.1 (reCd a b c) := pif_t f
    rw [e] at G
    rw [q2 _ cd.1 cd.2]
    exact G
theorem reRw_cg {x : Int} (h : reAg rn gv) : reRw rn x = reRw gv x := by
  have c : ∀ i : Int, 0 ≤ i → i < (16384 : Nat) → ((x ≤ i ∧ 0 ≤ rn i) ↔ (x ≤ i ∧ 0 ≤ gv i)) := fun i i0 i1 => by rw [h i i0 (by omega)]
  obtain ⟨b, b1, b2⟩ := fstI_s (fun i => x ≤ i ∧ 0 ≤ gv i) 16384
  have e : fstI (fun i => x ≤ i ∧ 0 ≤ rn i) 16384 = fstI (fun i => x ≤ i ∧ 0 ≤ gv i) 16384 := fstI_u b.1 b.2 (fun z => (c _ b.1 z).2 (b1 z)) (fun j j0 j1 w => b2 j j0 j1 ((c j j0 (by omega)).1 w))
  unfold reRw
  rw [e]
theorem Q55_row {post : Int → Int → (Int → Int) → (Int → Int) → (Int → Int) → Int → Int → (Int → Int) → (Int → Int) → (Int → Int) → (Int → Int) → Int → (Int → Int) → Int → (Int → Int) → (Int → Int) → (Int → Int) → (Int → Int) → (Int → Int) → Int → Int → Int → Prop} (R : reIR sd hd kd fo ln pt n kn rn gv st ci tn lg S) (h : ∀ kn' rn' gv' st' ci' tn' nd' cm' vs' pn' pc' po' now' fr' mn' sm' lo' hi' ly' wk' lg', reIR sd hd kd fo ln pt n kn' rn' gv' st' ci' tn' lg' S → post (rqRow a S) kn' rn' gv' st' ci' tn' nd' cm' vs' pn' pc' po' now' fr' mn' sm' lo' hi' ly' wk' lg') : wpX55_row post sd hd kd fo ln pt n kn rn gv st ci tn nd cm vs pn pc po now fr mn sm lo hi ly wk lg a := by
  obtain ⟨rfl, I, K⟩ := R
  refine T55_row I K (fun kn' rn' gv' st' ci' tn' nd' cm' vs' pn' pc' po' now' fr' mn' sm' lo' hi' ly' wk' lg' k0 K' => ?_)
  have G := h kn' rn' gv' st' ci' tn' nd' cm' vs' pn' pc' po' now' fr' mn' sm' lo' hi' ly' wk' lg' ⟨rfl, I, fun _ => K'⟩
  obtain ⟨q1, q2, q3, q4, q5, q6⟩ := reKn.rz I K'
  have e : rqRow a (sd, hd, kd, fo, ln, pt, n) = if a < 16384 then reRw (rzAll sd hd kd fo ln pt n).1 (if 0 ≤ a then a + 1 else 0) else -2 := rfl
  rw [e] at G
  rw [reRw_cg q1]
  exact G
theorem Q55_size {post : Int → Int → (Int → Int) → (Int → Int) → (Int → Int) → Int → Int → (Int → Int) → (Int → Int) → (Int → Int) → (Int → Int) → Int → (Int → Int) → Int → (Int → Int) → (Int → Int) → (Int → Int) → (Int → Int) → (Int → Int) → Int → Int → Int → Prop} (R : reIR sd hd kd fo ln pt n kn rn gv st ci tn lg S) (h : ∀ kn' rn' gv' st' ci' tn' nd' cm' vs' pn' pc' po' now' fr' mn' sm' lo' hi' ly' wk' lg', reIR sd hd kd fo ln pt n kn' rn' gv' st' ci' tn' lg' S → post (rqSiz S) kn' rn' gv' st' ci' tn' nd' cm' vs' pn' pc' po' now' fr' mn' sm' lo' hi' ly' wk' lg') : wpX55_size post sd hd kd fo ln pt n kn rn gv st ci tn nd cm vs pn pc po now fr mn sm lo hi ly wk lg  := by
  obtain ⟨rfl, I, K⟩ := R
  refine T55_size I K (fun kn' rn' gv' st' ci' tn' nd' cm' vs' pn' pc' po' now' fr' mn' sm' lo' hi' ly' wk' lg' k0 K' => ?_)
  have G := h kn' rn' gv' st' ci' tn' nd' cm' vs' pn' pc' po' now' fr' mn' sm' lo' hi' ly' wk' lg' ⟨rfl, I, fun _ => K'⟩
  obtain ⟨q1, q2, q3, q4, q5, q6⟩ := reKn.rz I K'
  have e : rqSiz (sd, hd, kd, fo, ln, pt, n) = cntI (fun c => 0 ≤ rn' c) 16384 := cntI_c (fun i i0 i1 => by rw [q1 i i0 (by omega)])
  rw [e] at G
  exact G
end
