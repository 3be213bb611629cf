/-! RuleEngine (room RE): strata; the work -/
/-- while strata are raised: s0 at the start of a turn, s now, c whether anything was raised -/
def rxSt (E X : Int → Int → Prop) (s0 s : Int → Int) (c : Int) (P1 P2 : Int → Int → Prop) : Prop := (∀ a, 0 ≤ a → a < 16 → 0 ≤ s a ∧ s a ≤ 15) ∧ (∀ g, reSol E X g → ∀ a, 0 ≤ a → a < 16 → s a ≤ g a) ∧ ((c = 0 ∧ s = s0 ∧ ∀ a b, (P1 a b → s0 b ≤ s0 a) ∧ (P2 a b → s0 b + 1 ≤ s0 a)) ∨ (c = 1 ∧ suI s0 16 < suI s 16))
theorem rxSt.c {E X P1 P2 Q1 Q2 : Int → Int → Prop} {s0 s : Int → Int} {c : Int} (h : rxSt E X s0 s c P1 P2) (e1 : ∀ a b, Q1 a b → P1 a b) (e2 : ∀ a b, Q2 a b → P2 a b) : rxSt E X s0 s c Q1 Q2 := ⟨h.1, h.2.1, h.2.2.elim (fun q => Or.inl ⟨q.1, q.2.1, fun a b => ⟨fun w => (q.2.2 a b).1 (e1 a b w), fun w => (q.2.2 a b).2 (e2 a b w)⟩⟩) Or.inr⟩
/-- an edge that holds already -/
theorem rxSt.o {E X P1 P2 Q1 Q2 : Int → Int → Prop} {s0 s : Int → Int} {c x y w : Int} (h : rxSt E X s0 s c P1 P2) (hw : w = 0 ∨ w = 1) (hs : s y + w ≤ s x) (e1 : ∀ a b, Q1 a b → P1 a b ∨ (a = x ∧ b = y)) (e2 : ∀ a b, Q2 a b → P2 a b ∨ ((a = x ∧ b = y) ∧ w = 1)) : rxSt E X s0 s c Q1 Q2 := ⟨h.1, h.2.1, h.2.2.elim (fun q => Or.inl ⟨q.1, q.2.1, fun a b => ⟨fun u => (e1 a b u).elim (q.2.2 a b).1 (fun z => by rw [z.1, z.2, ← q.2.1]; omega), fun u => (e2 a b u).elim (q.2.2 a b).2 (fun z => by rw [z.1.1, z.1.2, ← q.2.1]; omega)⟩⟩) Or.inr⟩
/-- an edge that raises -/
theorem rxSt.r {E X P1 P2 Q1 Q2 : Int → Int → Prop} {s0 s : Int → Int} {c x y w : Int} (h : rxSt E X s0 s c P1 P2) (hx : 0 ≤ x ∧ x < 16) (hy : 0 ≤ y ∧ y < 16) (hw : w = 0 ∨ w = 1) (hs : s x < s y + w) (hE : E x y) (hX : w = 1 → X x y) (ex : ∃ g, reSol E X g ∧ ∀ a, 0 ≤ a → a < 16 → g a ≤ 15) : rxSt E X s0 (updI s x (s y + w)) 1 Q1 Q2 := by
  obtain ⟨h1, h2, h3⟩ := h
  have le : ∀ g, reSol E X g → s y + w ≤ g x := fun g hg => by
    have a := h2 g hg y hy.1 hy.2
    have b := hg.2.1 x y hE
    rcases hw with hw | hw
    · omega
    · have := hg.2.2 x y (hX hw); omega
  obtain ⟨g0, hg0, g15⟩ := ex
  have l0 := le g0 hg0
  have l1 := g15 x hx.1 hx.2
  have sx := h1 x hx.1 hx.2
  refine ⟨fun a a0 a1 => ?_, fun g hg a a0 a1 => ?_, Or.inr ⟨rfl, ?_⟩⟩
  · rw [updI_e]
    by_cases z : a = x
    · rw [if_pos z]; omega
    · rw [if_neg z]; exact h1 a a0 a1
  · rw [updI_e]
    by_cases z : a = x
    · rw [if_pos z, z]; exact le g hg
    · rw [if_neg z]; exact h2 g hg a a0 a1
  · rw [suI_u, if_pos (by omega)]
    rcases h3 with h3 | h3
    · rw [h3.2.1] at hs ⊢; omega
    · omega
def rxM (x : Int) : Int := if 200001 < x then 200001 else x
theorem rxM_b {x : Int} (h : 0 ≤ x) : 0 ≤ rxM x ∧ rxM x ≤ 200001 := by unfold rxM; split <;> omega
theorem rxM_a {a b : Int} (ha : 0 ≤ a) (hb : 0 ≤ b) : rxM (rxM a + rxM b) = rxM (a + b) := by
  unfold rxM
  by_cases h1 : 200001 < a
  · rw [if_pos h1]
    by_cases h2 : 200001 < b
    · rw [if_pos h2, if_pos (by omega), if_pos (by omega)]
    · rw [if_neg h2, if_pos (show 200001 < a + b by omega)]
      split <;> omega
  · rw [if_neg h1]
    by_cases h2 : 200001 < b
    · rw [if_pos h2, if_pos (show 200001 < a + b by omega)]
      split <;> omega
    · rw [if_neg h2]
theorem rxM_m {a h : Int} (ha : 0 ≤ a) (hh : 0 ≤ h) : rxM (rxM a * h) = rxM (a * h) := by
  unfold rxM
  by_cases h1 : 200001 < a
  · rw [if_pos h1]
    by_cases h0 : h = 0
    · rw [h0, Int.mul_zero, Int.mul_zero]
    · have e1 : 200001 * 1 ≤ 200001 * h := Int.mul_le_mul_of_nonneg_left (by omega) (by decide)
      have e2 : a * 1 ≤ a * h := Int.mul_le_mul_of_nonneg_left (by omega) ha
      rw [if_pos (show 200001 < a * h by omega)]
      split <;> omega
  · rw [if_neg h1]
section
variable {kd : Nat → Nat} {an : Nat → Nat} {ai : Nat → Int → Int} {al : Nat → Int → Int} {ar : Nat → Int → Option Nat} {mX35_said : Nat → Option Nat} {mX35_rules : Nat → Option Nat} {mX35_strata : Nat → Option Nat} {mX35_needs : Nat → Option Nat} {mX35_safe : Nat → Option Nat} {mX35_circle : Nat → Int} {mX35_known : Nat → Int} {mX35_holds : Nat → Option Nat} {mX35_rounds : Nat → Option Nat} {mX35_counts : Nat → Option Nat} {mX35_roundCount : Nat → Int} {mX35_last : Nat → Option Nat} {mX35_next : Nat → Option Nat} {mX35_values : Nat → Option Nat} {mX35_coming : Nat → Option Nat} {mX35_counting : Nat → Option Nat} {mX35_gathering : Nat → Option Nat} {mX35_together : Nat → Option Nat} {mX35_held : Nat → Option Nat} {mX35_work : Nat → Int} {mX35_large : Nat → Int} {mX83_head : Nat → Option Nat} {mX83_parts : Nat → Option Nat} {mX83_kind : Nat → Int} {mX83_variable : Nat → Int} {mX84_sort : Nat → Int} {mX84_name : Nat → Int} {mX84_x : Nat → Int} {mX84_y : Nat → Int} {mJ1_modCount : Nat → Int} {mJ2_elementData : Nat → Option Nat} {mJ2_size : Nat → Int} {mJ4_words : Nat → Option Nat} {mJ4_wordsInUse : Nat → Int} {mJ4_sizeIsSticky : Nat → Int} {sa : Nat → Nat} {A : Nat → Int → Nat} {hd ki fo ln pt sd st rn gv : Int → Int} {n r k v c s : Int} {e0 : Nat} {W : Int → Nat} {Lq : Int → Int} {Pq : Int → Int → Prop} {MC MS : Nat} {F H_ Li Ro : Int → Nat} {Pa : Int → Int → Nat} {G : Nat → Nat × Int} {L0 : Int → Int} {P0 : Int → Int → Prop} {ai0 : Nat → Int → Int} {ne la fr : Int}
theorem CRE_s254 {K : Int → (Nat → Int → Int) → Prop} {s0 s : Int → Int} (I : reI hd ki fo ln pt n) (hr : 0 ≤ r ∧ r < n) (hs : reSf hd ki fo ln pt r) (H : Lab rxK rxL kd an A G rxN) (rN : mX35_strata (A 0 0) = some (A 2 0)) (R : rxRu kd an ar mX83_head mX83_parts mX83_kind mX83_variable mX84_sort mX84_name mX84_x mX84_y mJ2_elementData mJ2_size (sa 0) hd ki fo ln pt r (F r) (H_ r) (Li r) (Ro r) (Pa r)) (ex : ∃ g, reSol (reEd hd ki fo ln pt n 1) (reEd hd ki fo ln pt n 2) g ∧ ∀ a, 0 ≤ a → a < 16 → g a ≤ 15) (hc : rxSt (reEd hd ki fo ln pt n 1) (reEd hd ki fo ln pt n 2) s0 s c (fun a b => reEp hd ki fo ln pt n r 0 1 a b) (fun a b => reEp hd ki fo ln pt n r 0 2 a b))
  (hK : ∀ c s, rxSt (reEd hd ki fo ln pt n 1) (reEd hd ki fo ln pt n 2) s0 s c (fun a b => reEp hd ki fo ln pt n (r + 1) 0 1 a b) (fun a b => reEp hd ki fo ln pt n (r + 1) 0 2 a b) → K c (va_up ai (A 2 0) s)) : ∃ fu : Nat, wRE_X35_stratify_254 K (A 0 0) (some (F r)) kd an ar mX35_strata mX83_head mX83_parts mX83_kind mX84_sort mX84_name mJ2_elementData mJ2_size fu c 0 (va_up ai (A 2 0) s) := by
  obtain ⟨⟨i1, _⟩, ⟨hk1, _⟩, hl, i4⟩ := I.2 r hr.1 hr.2
  obtain ⟨⟨o0, o1, o2, o3, o4⟩, ⟨h1, h2, h3, h4, h5⟩, l7, l5, l6⟩ := id R
  have a2 : an (A 2 0) = 16 := rx_an H 2 0 (by decide) (by decide) (by decide)
  have k2 : kd (A 2 0) = 9 := rx_kd H 2 0 (by decide) (by decide)
  refine wl3 (fun fu c k z => wRE_X35_stratify_254 K (A 0 0) (some (F r)) kd an ar mX35_strata mX83_head mX83_parts mX83_kind mX84_sort mX84_name mJ2_elementData mJ2_size fu c k z) (fun c k z => (0 ≤ k ∧ k ≤ ln r) ∧ ∃ s, z = va_up ai (A 2 0) s ∧ rxSt (reEd hd ki fo ln pt n 1) (reEd hd ki fo ln pt n 2) s0 s c (fun a b => reEp hd ki fo ln pt n r k 1 a b) (fun a b => reEp hd ki fo ln pt n r k 2 a b)) (fun _ k _ => (ln r - k).toNat) ?_ c 0 _ ⟨by omega, s, rfl, hc⟩
  rintro c k z ⟨hk, s, rfl, hc⟩ fu ih
  rw [wRE_X35_stratify_254]
  unfold wpRE_J2_size
  refine kOn_some ⟨o0, kOn_of o2 ⟨l7, ?_⟩⟩
  rw [l5.2.1]
  refine ⟨fun z => hK c s (hc.c (fun a b w => by rw [show k = ln r by omega]; exact rxEp_l.1 w) (fun a b w => by rw [show k = ln r by omega]; exact rxEp_l.1 w)), fun z => CRE_lget l5 hk.1 (by omega) (kOn_some ?_)⟩
  obtain ⟨q6, q2, q3, q4, q5⟩ := l6 k hk.1 (by omega)
  obtain ⟨p1, p2, p3, p4⟩ := i4 k hk.1 (by omega)
  have ec1 := fun a b => rxEc (t := 1) (a := a) (b := b) hr hs (k := k) (by omega)
  have ec2 := fun a b => rxEc (t := 2) (a := a) (b := b) hr hs (k := k) (by omega)
  unfold wpRE_X84_sort wpRE_X84_name
  rw [q2, q3]
  refine ⟨q6, fun w => kOn_of rN ⟨k2, ?_⟩, fun w => ⟨by omega, fun k2 e2 => ?_⟩⟩
  rotate_left
  · have p2' : pt (20 * r + 4 * k) = 2 := by
      unfold rxSo at w
      by_cases q : pt (20 * r + 4 * k) = 2
      · exact q
      · rw [if_neg q] at w; omega
    rw [e2]
    exact ih _ _ _ ⟨by omega, s, rfl, hc.c (fun a b u => (reEp_s.1 u).elim id (fun u => absurd p2' ((ec1 a b).1 u).1)) (fun a b u => (reEp_s.1 u).elim id (fun u => absurd p2' ((ec2 a b).1 u).1))⟩ (by omega)
  have np2 : ¬ pt (20 * r + 4 * k) = 2 := fun q => by
    unfold rxSo at w
    rw [if_pos q] at w; omega
  have nm : rxNm pt (20 * r + 4 * k) = pt (20 * r + 4 * k + 1) := by unfold rxNm; rw [if_neg np2]
  have so : rxSo pt (20 * r + 4 * k) = pt (20 * r + 4 * k) := by unfold rxSo; rw [if_neg np2]
  rw [so] at q2
  rw [nm, a2, va_up_self]
  have sy := hc.1 _ p2.1 p2.2
  have main : ∀ w : Int, (w = 0 ∨ w = 1) → (w = 1 ↔ (pt (20 * r + 4 * k) = 1 ∨ ¬ ki r < 0)) → wRE_X35_stratify_316 (wRE_X35_stratify_254 K (A 0 0) (some (F r)) kd an ar mX35_strata mX83_head mX83_parts mX83_kind mX84_sort mX84_name mJ2_elementData mJ2_size fu) (A 0 0) c (some (F r)) k (s (pt (20 * r + 4 * k + 1))) w kd an (va_up ai (A 2 0) s) mX35_strata mX83_head mX84_name := fun w hw hst => by
    have e1 : ∀ a b, reEp hd ki fo ln pt n r (k + 1) 1 a b → reEp hd ki fo ln pt n r k 1 a b ∨ (a = hd (3 * r) ∧ b = pt (20 * r + 4 * k + 1)) := fun a b u => (reEp_s.1 u).elim Or.inl (fun u => Or.inr ⟨((ec1 a b).1 u).2.1.1.symm, ((ec1 a b).1 u).2.1.2.symm⟩)
    have e2 : ∀ a b, reEp hd ki fo ln pt n r (k + 1) 2 a b → reEp hd ki fo ln pt n r k 2 a b ∨ ((a = hd (3 * r) ∧ b = pt (20 * r + 4 * k + 1)) ∧ w = 1) := fun a b u => (reEp_s.1 u).elim Or.inl (fun u => Or.inr ⟨⟨((ec2 a b).1 u).2.1.1.symm, ((ec2 a b).1 u).2.1.2.symm⟩, hst.2 (((ec2 a b).1 u).2.2 rfl)⟩)
    unfold wRE_X35_stratify_316 wpRE_X84_name
    refine ⟨by omega, fun x6 e6 => kOn_some ⟨o0, kOn_of o1 ⟨h1, kOn_of rN ⟨k2, ?_⟩⟩⟩⟩
    rw [h3, a2, va_up_self, e6]
    refine ⟨i1, fun lt => ⟨i1, fun s2 es2 => ⟨by omega, fun k3 e3 => ?_⟩⟩, fun ge => ⟨by omega, fun k3 e3 => ?_⟩⟩
    · rw [es2, e3, va_up_up]
      refine ih _ _ _ ⟨by omega, _, rfl, hc.r i1 p2 hw lt ⟨r, k, (ec1 _ _).2 ⟨np2, ⟨rfl, rfl⟩, fun z => absurd z (by decide)⟩⟩ (fun w1 => ⟨r, k, (ec2 _ _).2 ⟨np2, ⟨rfl, rfl⟩, fun _ => hst.1 w1⟩⟩) ex⟩ (by omega)
    · rw [e3]
      exact ih _ _ _ ⟨by omega, s, rfl, hc.o hw (by omega) e1 e2⟩ (by omega)
  exact ⟨p2, CRE_isStrict R hk1.1 q6 q2 (fun st => ⟨fun z => absurd z (by decide), fun _ => main 1 (Or.inr rfl) ⟨fun _ => st, fun _ => rfl⟩⟩) (fun st => ⟨fun _ => main 0 (Or.inl rfl) ⟨fun z => absurd z (by decide), fun z => absurd z st⟩, fun z => absurd rfl z⟩)⟩
theorem CRE_stratify {post : (Nat → Int → Int) → (Nat → Int) → Prop} (I : reI hd ki fo ln pt n) (H : Lab rxK rxL kd an A G rxN) (R : rxRs kd an ar mX83_head mX83_parts mX83_kind mX83_variable mX84_sort mX84_name mX84_x mX84_y mJ2_elementData mJ2_size (sa 0) A hd ki fo ln pt n e0 F H_ Li Ro Pa) (rR : mX35_rules (A 0 0) = some (A 10 0)) (rN : mX35_needs (A 0 0) = some (A 2 1)) (rT : mX35_strata (A 0 0) = some (A 2 0)) (rS : mX35_safe (A 0 0) = some (A 3 0)) (hsf : ∀ k, 0 ≤ k → k < n → (¬ ai (A 3 0) k = 0 ↔ reSf hd ki fo ln pt k))
  (hp : ∀ ai', (∀ a, a ≠ A 2 0 → a ≠ A 2 1 → ai' a = ai a) → (0 ≤ reCi (reEd hd ki fo ln pt n 1) (reEd hd ki fo ln pt n 2) → ∀ a, 0 ≤ a → a < 16 → ai' (A 2 0) a = 0) → (reCi (reEd hd ki fo ln pt n 1) (reEd hd ki fo ln pt n 2) = -1 → reLs (reEd hd ki fo ln pt n 1) (reEd hd ki fo ln pt n 2) (ai' (A 2 0)) ∧ ∀ a, 0 ≤ a → a < 16 → ai' (A 2 0) a ≤ 15) → post ai' (va_up mX35_circle (A 0 0) (reCi (reEd hd ki fo ln pt n 1) (reEd hd ki fo ln pt n 2)))) : wpRE_X35_stratify post kd an ai ar mX35_rules mX35_strata mX35_needs mX35_safe mX35_circle mX83_head mX83_parts mX83_kind mX84_sort mX84_name mJ2_elementData mJ2_size (A 0 0) := by
  have hn := I.1
  have a3 : an (A 3 0) = 16 := rx_an H 3 0 (by decide) (by decide) (by decide)
  have k3 : kd (A 3 0) = 10 := rx_kd H 3 0 (by decide) (by decide)
  have a2 : an (A 2 0) = 16 := rx_an H 2 0 (by decide) (by decide) (by decide)
  have k2 : kd (A 2 0) = 9 := rx_kd H 2 0 (by decide) (by decide)
  have k10 : kd (A 10 0) = 7 := rx_kd H 10 0 (by decide) (by decide)
  have n32 : A 3 0 ≠ A 2 1 := H.ne (i := 3) (i' := 2) ⟨by decide, by decide⟩ ⟨by decide, by decide⟩ (Or.inl (by decide))
  have n30 : A 3 0 ≠ A 2 0 := H.ne (i := 3) (i' := 2) ⟨by decide, by decide⟩ ⟨by decide, by decide⟩ (Or.inl (by decide))
  unfold wpRE_X35_stratify
  refine CRE_findNeeds I H R rR rN rS hsf (fun f hf cm ecm => ?_)
  obtain ⟨R1, R2, _⟩ := R
  have hM : rxMk (reW (reEd hd ki fo ln pt n 1) 16) (va_up ai (A 2 1) f (A 2 1)) := by rw [va_up_self]; exact hf
  have hsf1 : ∀ k, 0 ≤ k → k < n → (¬ va_up ai (A 2 1) f (A 3 0) k = 0 ↔ reSf hd ki fo ln pt k) := fun k k0 k1 => by rw [va_up_ne _ _ n32]; exact hsf k k0 k1
  have so1 : ∀ a, a ≠ A 2 0 → a ≠ A 2 1 → va_up ai (A 2 1) f a = ai a := fun a _ a2 => va_up_ne _ _ a2
  generalize va_up ai (A 2 1) f = ai1 at hM hsf1 so1
  rw [ecm]
  refine wl2 (fun f k s => wRE_X35_stratify_11 _ (A 0 0) kd an ai1 ar mX35_rules mX35_needs mX35_safe mX83_head mX83_parts mX83_kind mX84_sort mX84_name mJ2_elementData mJ2_size f k s) (fun k s => (0 ≤ k ∧ k ≤ n) ∧ ∃ c, s = va_up mX35_circle (A 0 0) c ∧ rxCc (reEd hd ki fo ln pt n 1) (fun a b => reEp hd ki fo ln pt n k 0 2 a b) c) (fun k _ => (n - k).toNat) ?_ 0 _ ⟨by omega, -1, rfl, Or.inl ⟨rfl, fun a b w => reEp_0 w.1⟩⟩
  rintro k s ⟨hk, c, rfl, hc⟩ nn ih
  rw [wRE_X35_stratify_11]
  unfold wpRE_J2_size
  refine kOn_of rR ⟨k10, ?_⟩
  rw [R1.2.1]
  refine ⟨fun z => ?_, fun z => kOn_of rS ⟨k3, by rw [a3]; exact ⟨hk.1, by show k < 16; omega⟩, ?_⟩⟩
  rotate_left
  · have sf := hsf1 k hk.1 (by omega)
    refine ⟨fun w => ⟨by omega, fun k2 e2 => ?_⟩, fun w => CRE_lget R1 hk.1 (by omega) (kOn_some ?_)⟩
    · rw [e2]
      exact ih _ _ ⟨by omega, c, rfl, hc.c (fun a b => (rxEp_u (fun q => (sf.2 q) w)).symm)⟩ (by omega)
    · obtain ⟨⟨o0, o1, _⟩, ⟨h1, h2, h3, _⟩, _⟩ := R2 k hk.1 (by omega)
      unfold wpRE_X84_name
      refine ⟨o0, kOn_of o1 ⟨h1, ?_⟩⟩
      rw [h3]
      exact CRE_s57 I ⟨hk.1, by omega⟩ (sf.1 w) H rN (R2 k hk.1 (by omega)) hM hc (fun c2 hc2 => ⟨by omega, fun k2 e2 => by
        rw [e2]
        exact ih _ _ ⟨by omega, c2, rfl, hc2⟩ (by omega)⟩)
  clear ih
  have ec : c = reCi (reEd hd ki fo ln pt n 1) (reEd hd ki fo ln pt n 2) := (hc.c (fun a b => by rw [show k = n by omega]; exact reEp_e)).ci (fun a b h => reEd_r I h)
  rw [va_up_self, ec]
  clear hc ec
  have hE := fun a b (h : (reEd hd ki fo ln pt n 1) a b) => reEd_r I h
  have hX := fun a b (h : (reEd hd ki fo ln pt n 2) a b) => reEd_2 h
  generalize eci : reCi (reEd hd ki fo ln pt n 1) (reEd hd ki fo ln pt n 2) = ci at hp
  refine wl2 (fun f k s => wRE_X35_stratify_175 _ (A 0 0) kd an mX35_strata f k s) (fun k s => (0 ≤ k ∧ k ≤ 16) ∧ ∃ f, s = va_up ai1 (A 2 0) f ∧ ∀ i, 0 ≤ i → i < k → f i = 0) (fun k _ => (16 - k).toNat) ?_ 0 ai1 ⟨by omega, ai1 (A 2 0), (va_up_id rfl).symm, fun i i0 i1 => by omega⟩
  rintro k s ⟨hk, f, rfl, hf⟩ nn ih
  rw [wRE_X35_stratify_175]
  refine ⟨fun z => ?_, fun z => kOn_of rT ⟨k2, by rw [a2]; exact ⟨hk.1, by show k < 16; omega⟩, fun s2 e1 => ⟨by omega, fun k2 e2 => ?_⟩⟩⟩
  rotate_left
  · rw [va_up_self, va_up_up] at e1
    rw [e1, e2]
    refine ih _ _ ⟨by omega, _, rfl, fun i i0 i1 => ?_⟩ (by omega)
    by_cases z2 : i = k
    · rw [z2, updI_s]
    · rw [updI_n z2]; exact hf i i0 (by omega)
  clear ih
  have f0 : ∀ a, 0 ≤ a → a < 16 → f a = 0 := fun a a0 a1 => hf a a0 (by omega)
  have cib : 0 ≤ ci ∨ ci = -1 := by
    have fb := (fstI_s (reQ (reEd hd ki fo ln pt n 1) (reEd hd ki fo ln pt n 2)) 16).1.1
    rw [← eci]
    unfold reCi
    split
    · exact Or.inl fb
    · exact Or.inr rfl
  have so2 : ∀ (s : Int → Int), ∀ a, a ≠ A 2 0 → a ≠ A 2 1 → va_up ai1 (A 2 0) s a = ai a := fun s a x y => by rw [va_up_ne _ _ x]; exact so1 a x y
  refine ⟨fun z => ?_, fun z => ⟨1, ?_⟩⟩
  rotate_left
  · rw [wRE_X35_stratify_208]
    refine ⟨fun _ => ?_, fun w => absurd rfl w⟩
    exact hp _ (so2 f) (fun _ a a0 a1 => by rw [va_up_self]; exact f0 a a0 a1) (fun w => absurd w z)
  have hs := reRk_s hE hX (by rw [eci]; exact z)
  have ex : ∃ g, reSol (reEd hd ki fo ln pt n 1) (reEd hd ki fo ln pt n 2) g ∧ ∀ a, 0 ≤ a → a < 16 → g a ≤ 15 := ⟨reRk (reEd hd ki fo ln pt n 1), hs, fun a a0 a1 => (reRk_b ⟨a0, a1⟩).2⟩
  refine wl2 (fun f c s => wRE_X35_stratify_208 _ (A 0 0) kd an ar mX35_rules mX35_strata mX35_safe mX83_head mX83_parts mX83_kind mX84_sort mX84_name mJ2_elementData mJ2_size f c s) (fun c z => ∃ s, z = va_up ai1 (A 2 0) s ∧ ((c = 0 ∧ reLs (reEd hd ki fo ln pt n 1) (reEd hd ki fo ln pt n 2) s ∧ ∀ a, 0 ≤ a → a < 16 → s a ≤ 15) ∨ (c = 1 ∧ (∀ a, 0 ≤ a → a < 16 → 0 ≤ s a ∧ s a ≤ 15) ∧ ∀ g, reSol (reEd hd ki fo ln pt n 1) (reEd hd ki fo ln pt n 2) g → ∀ a, 0 ≤ a → a < 16 → s a ≤ g a))) (fun c z => if c = 0 then 0 else (241 - suI (z (A 2 0)) 16).toNat) ?_ 1 _ ⟨f, rfl, Or.inr ⟨rfl, fun a a0 a1 => by rw [f0 a a0 a1]; decide, fun g hg a a0 a1 => by rw [f0 a a0 a1]; exact hg.1 a a0 a1⟩⟩
  rintro c z' ⟨s, rfl, hcs⟩ nn ih
  rw [wRE_X35_stratify_208]
  refine ⟨fun e => ?_, fun e => ?_⟩
  · rcases hcs with ⟨_, h⟩ | ⟨e2, _⟩
    · refine hp _ (so2 s) (fun w => by omega) (fun _ => ?_)
      rw [va_up_self]; exact h
    · omega
  rcases hcs with ⟨e2, _⟩ | ⟨e2, hb, hl⟩
  · exact absurd e2 e
  rw [va_up_self] at ih
  have sb := suI_b (m := 15) 16 (fun a a0 a1 => hb a a0 a1)
  refine wl3 (fun f c k z => wRE_X35_stratify_216 _ (A 0 0) kd an ar mX35_rules mX35_strata mX35_safe mX83_head mX83_parts mX83_kind mX84_sort mX84_name mJ2_elementData mJ2_size f c k z) (fun c k z => (0 ≤ k ∧ k ≤ n) ∧ ∃ s1, z = va_up ai1 (A 2 0) s1 ∧ rxSt (reEd hd ki fo ln pt n 1) (reEd hd ki fo ln pt n 2) s s1 c (fun a b => reEp hd ki fo ln pt n k 0 1 a b) (fun a b => reEp hd ki fo ln pt n k 0 2 a b)) (fun _ k _ => (n - k).toNat) ?_ 0 0 _ ⟨by omega, s, rfl, hb, hl, Or.inl ⟨rfl, rfl, fun a b => ⟨fun w => absurd w reEp_0, fun w => absurd w reEp_0⟩⟩⟩
  rintro c k z' ⟨hk, s1, rfl, hc⟩ nn2 ih2
  rw [wRE_X35_stratify_216]
  unfold wpRE_J2_size
  refine kOn_of rR ⟨k10, ?_⟩
  rw [R1.2.1]
  refine ⟨fun w => ?_, fun w => kOn_of rS ⟨k3, by rw [a3]; exact ⟨hk.1, by show k < 16; omega⟩, ?_⟩⟩
  · have ek : k = n := by omega
    obtain ⟨c1, c2, c3⟩ := hc
    rcases c3 with ⟨e0, es, c3⟩ | ⟨e1, c3⟩
    · rw [e0, es]
      refine ih 0 _ ⟨s, rfl, Or.inl ⟨rfl, ⟨⟨fun a a0 a1 => (hb a a0 a1).1, fun a b h => (c3 a b).1 (by rw [ek]; exact reEp_e.2 h), fun a b h => (c3 a b).2 (by rw [ek]; exact reEp_e.2 h)⟩, hl⟩, fun a a0 a1 => (hb a a0 a1).2⟩⟩ ?_
      rw [if_pos rfl, if_neg e]
      omega
    · rw [e1]
      have sb1 := suI_b (m := 15) 16 (fun a a0 a1 => c1 a a0 a1)
      refine ih 1 _ ⟨s1, rfl, Or.inr ⟨rfl, c1, c2⟩⟩ ?_
      rw [va_up_self, if_neg (by decide), if_neg e]
      omega
  · rw [va_up_ne _ _ n30]
    have sf := hsf1 k hk.1 (by omega)
    refine ⟨fun w2 => ⟨by omega, fun k2 e2 => ?_⟩, fun w2 => CRE_lget R1 hk.1 (by omega) (kOn_some ⟨(R2 k hk.1 (by omega)).1.1, ?_⟩)⟩
    · rw [e2]
      have us : ¬ reSf hd ki fo ln pt k := fun q => (sf.2 q) w2
      exact ih2 _ _ _ ⟨by omega, s1, rfl, hc.c (fun a b q => (rxEp_u us).1 q) (fun a b q => (rxEp_u us).1 q)⟩ (by omega)
    · exact CRE_s254 I ⟨hk.1, by omega⟩ (sf.1 w2) H rT (R2 k hk.1 (by omega)) ex hc (fun c2 s2 hc2 => ⟨by omega, fun k2 e2 => by
        rw [e2]
        exact ih2 _ _ _ ⟨by omega, s2, rfl, hc2⟩ (by omega)⟩)
theorem CRE_pay64 {K : Int → Prop} (I : reI hd ki fo ln pt n) (hr : 0 ≤ r ∧ r < n) (H : Lab rxK rxL kd an A G rxN) (rH : mX35_held (A 0 0) = some (A 2 2)) (R : rxRu kd an ar mX83_head mX83_parts mX83_kind mX83_variable mX84_sort mX84_name mX84_x mX84_y mJ2_elementData mJ2_size (sa 0) hd ki fo ln pt r (F r) (H_ r) (Li r) (Ro r) (Pa r)) (hh : ∀ a, 0 ≤ a → a < 16 → ai (A 2 2) a = reFo rn a) (hK : K (rxM (rePr pt rn r (ln r).toNat))) : ∃ fu : Nat, wRE_X35_pay_64 K (A 0 0) (some (F r)) kd an ai ar mX35_held mX83_parts mX84_sort mX84_name mJ2_elementData mJ2_size fu 1 0 := by
  obtain ⟨_, _, hl, i4⟩ := I.2 r hr.1 hr.2
  obtain ⟨⟨o0, o1, o2, o3, o4⟩, _, l7, l5, l6⟩ := R
  have a2 : an (A 2 2) = 16 := rx_an H 2 2 (by decide) (by decide) (by decide)
  have k2 : kd (A 2 2) = 9 := rx_kd H 2 2 (by decide) (by decide)
  refine wl2 (fun fu x k => wRE_X35_pay_64 K (A 0 0) (some (F r)) kd an ai ar mX35_held mX83_parts mX84_sort mX84_name mJ2_elementData mJ2_size fu x k) (fun x k => (0 ≤ k ∧ k ≤ ln r) ∧ x = rxM (rePr pt rn r k.toNat)) (fun _ k => (ln r - k).toNat) ?_ 1 0 ⟨by omega, by show 1 = rxM 1; decide⟩
  rintro x k ⟨hk, ex⟩ fu ih
  rw [wRE_X35_pay_64]
  unfold wpRE_J2_size
  refine kOn_some ⟨o0, kOn_of o2 ⟨l7, ?_⟩⟩
  rw [l5.2.1]
  have ek : ((k.toNat : Nat) : Int) = k := by omega
  have es : rePr pt rn r (k + 1).toNat = if pt (20 * r + 4 * k) = 0 then rePr pt rn r k.toNat * reFo rn (pt (20 * r + 4 * k + 1)) else rePr pt rn r k.toNat := by
    rw [show (k + 1).toNat = k.toNat + 1 by omega, rePr, ek]
  refine ⟨fun z => by rw [ex, show k.toNat = (ln r).toNat by omega]; exact hK, fun z => CRE_lget l5 hk.1 (by omega) (kOn_some ?_)⟩
  obtain ⟨q6, q2, q3, q4, q5⟩ := l6 k hk.1 (by omega)
  obtain ⟨p1, p2, p3, p4⟩ := i4 k hk.1 (by omega)
  have so0 := rxSo_0 (pt := pt) (v := 20 * r + 4 * k) (by omega) p2.1
  have pb := (rePr_b (pt := pt) (rn := rn) (r := r) k.toNat).1
  unfold wpRE_X84_sort wpRE_X84_name
  rw [q2, q3]
  refine ⟨q6, fun w => kOn_of rH ⟨k2, ?_⟩, fun w => ⟨by omega, fun k2 e2 => ?_⟩⟩
  · have p0 := so0.1 w
    have nm : rxNm pt (20 * r + 4 * k) = pt (20 * r + 4 * k + 1) := by unfold rxNm; rw [if_neg (by omega)]
    rw [if_pos p0] at es
    rw [nm, a2, hh _ p2.1 p2.2]
    have fb := reFo_b (rn := rn) (a := pt (20 * r + 4 * k + 1))
    have xb := rxM_b pb
    rw [← ex] at xb
    have mb : 0 ≤ x * reFo rn (pt (20 * r + 4 * k + 1)) := Int.mul_nonneg xb.1 fb.1
    have mb2 : x * reFo rn (pt (20 * r + 4 * k + 1)) ≤ 200001 * 1024 := Int.mul_le_mul xb.2 fb.2 fb.1 (by decide)
    refine ⟨⟨p2.1, p2.2⟩, by omega, fun x2 e2 => ⟨by omega, fun k2 ek2 => ?_⟩⟩
    rw [ek2]
    refine ih _ _ ⟨by omega, ?_⟩ (by omega)
    rw [es, ← rxM_m pb fb.1, ← ex]
    exact e2
  · rw [if_neg (fun q => w (so0.2 q))] at es
    rw [e2]
    exact ih _ _ ⟨by omega, by rw [es]; exact ex⟩ (by omega)
theorem reWk_0 (I : reI hd ki fo ln pt n) {w : Int} (hw : 0 ≤ w) {m : Nat} (hm : (m : Int) ≤ n) : 0 ≤ reWk hd ki fo ln pt st rn s w m := by
  have := (reWk_b (st := st) (rn := rn) (s := s) I (w := w) m hm).1
  omega
theorem CRE_pay {post : (Nat → Int) → (Nat → Int) → Prop} {w : Int} (I : reI hd ki fo ln pt n) (H : Lab rxK rxL kd an A G rxN) (R : rxRs kd an ar mX83_head mX83_parts mX83_kind mX83_variable mX84_sort mX84_name mX84_x mX84_y mJ2_elementData mJ2_size (sa 0) A hd ki fo ln pt n e0 F H_ Li Ro Pa) (rR : mX35_rules (A 0 0) = some (A 10 0)) (rT : mX35_strata (A 0 0) = some (A 2 0)) (rH : mX35_held (A 0 0) = some (A 2 2)) (rS : mX35_safe (A 0 0) = some (A 3 0)) (hsf : ∀ k, 0 ≤ k → k < n → (¬ ai (A 3 0) k = 0 ↔ reSf hd ki fo ln pt k)) (hst : ∀ a, 0 ≤ a → a < 16 → ai (A 2 0) a = st a) (hh : ∀ a, 0 ≤ a → a < 16 → ai (A 2 2) a = reFo rn a) (hs : s = -1 ∨ 0 ≤ s) (hw : 0 ≤ w) (ew : mX35_work (A 0 0) = rxM w)
  (hp : post (va_up mX35_work (A 0 0) (rxM (reWk hd ki fo ln pt st rn s w n.toNat))) (va_up mX35_large (A 0 0) (if rxM (reWk hd ki fo ln pt st rn s w n.toNat) ≤ 200000 then 0 else 1))) : wpRE_X35_pay post kd an ai ar mX35_rules mX35_strata mX35_safe mX35_held mX35_work mX35_large mX83_head mX83_parts mX84_sort mX84_name mJ2_elementData mJ2_size (A 0 0) s := by
  have hn := I.1
  have a3 : an (A 3 0) = 16 := rx_an H 3 0 (by decide) (by decide) (by decide)
  have k3 : kd (A 3 0) = 10 := rx_kd H 3 0 (by decide) (by decide)
  have a2 : an (A 2 0) = 16 := rx_an H 2 0 (by decide) (by decide) (by decide)
  have k2 : kd (A 2 0) = 9 := rx_kd H 2 0 (by decide) (by decide)
  have k10 : kd (A 10 0) = 7 := rx_kd H 10 0 (by decide) (by decide)
  obtain ⟨R1, R2, _⟩ := R
  unfold wpRE_X35_pay
  refine wl2 (fun f k z => wRE_X35_pay_2 _ (A 0 0) s kd an ai ar mX35_rules mX35_strata mX35_safe mX35_held mX83_head mX83_parts mX84_sort mX84_name mJ2_elementData mJ2_size f k z) (fun k z => (0 ≤ k ∧ k ≤ n) ∧ z = va_up mX35_work (A 0 0) (rxM (reWk hd ki fo ln pt st rn s w k.toNat))) (fun k _ => (n - k).toNat) ?_ 0 _ ⟨by omega, (va_up_id ew.symm).symm⟩
  rintro k z ⟨hk, rfl⟩ fu ih
  rw [wRE_X35_pay_2]
  unfold wpRE_J2_size
  refine kOn_of rR ⟨k10, ?_⟩
  rw [R1.2.1, va_up_self]
  refine ⟨fun z => ?_, fun z => CRE_lget R1 hk.1 (by omega) (kOn_some ⟨(R2 k hk.1 (by omega)).1.1, kOn_of rS ⟨k3, by rw [a3]; exact ⟨hk.1, by show k < 16; omega⟩, ?_⟩⟩)⟩
  · rw [show k.toNat = n.toNat by omega]
    refine ⟨fun q l el => ?_, fun q l el => ?_⟩
    · rw [if_pos q] at hp
      rw [el]; exact hp
    · rw [if_neg q] at hp
      rw [el]; exact hp
  have sf := hsf k hk.1 (by omega)
  have ek : ((k.toNat : Nat) : Int) = k := by omega
  have eW : reWk hd ki fo ln pt st rn s w (k + 1).toNat = pif (reSel hd ki fo ln pt st s k) (reWk hd ki fo ln pt st rn s w k.toNat + rePr pt rn k (ln k).toNat) (reWk hd ki fo ln pt st rn s w k.toNat) := by
    rw [show (k + 1).toNat = k.toNat + 1 by omega, reWk, ek]
  have w0 := reWk_0 (st := st) (rn := rn) (s := s) I hw (m := k.toNat) (by omega)
  have p0 := (rePr_b (pt := pt) (rn := rn) (r := k) (ln k).toNat).1
  have b1 := rxM_b w0
  have b2 := rxM_b p0
  have take : reSel hd ki fo ln pt st s k → zL (rxM (reWk hd ki fo ln pt st rn s w k.toNat) + rxM (rePr pt rn k (ln k).toNat)) ∧ (∀ v : Int, v = (if 200001 < (rxM (reWk hd ki fo ln pt st rn s w k.toNat) + rxM (rePr pt rn k (ln k).toNat)) then 200001 else (rxM (reWk hd ki fo ln pt st rn s w k.toNat) + rxM (rePr pt rn k (ln k).toNat))) → ∀ m : Nat → Int, m = va_up (va_up mX35_work (A 0 0) (rxM (reWk hd ki fo ln pt st rn s w k.toNat))) (A 0 0) v → zR (k + 1) ∧ ∀ x2 : Int, x2 = k + 1 → wRE_X35_pay_2 (fun (mX35_work_77 : Nat → Int) => (((mX35_work_77 (A 0 0)) ≤ 200000 → (∀ mX35_large_79 : Nat → Int, mX35_large_79 = va_up mX35_large (A 0 0) 0 → ((post mX35_work_77 mX35_large_79)))) ∧ (¬ (mX35_work_77 (A 0 0)) ≤ 200000 → (∀ mX35_large_80 : Nat → Int, mX35_large_80 = va_up mX35_large (A 0 0) 1 → ((post mX35_work_77 mX35_large_80)))))) (A 0 0) s kd an ai ar mX35_rules mX35_strata mX35_safe mX35_held mX83_head mX83_parts mX84_sort mX84_name mJ2_elementData mJ2_size fu x2 m) := fun sel => ⟨by omega, fun v ev m em => ⟨by omega, fun x2 e2 => by
    rw [em, e2, va_up_up]
    refine ih _ _ ⟨by omega, ?_⟩ (by omega)
    rw [eW, pif_t sel, ← rxM_a w0 p0, ev]
    rfl⟩⟩
  have skip : ¬ reSel hd ki fo ln pt st s k → ∀ x2 : Int, x2 = k + 1 → wRE_X35_pay_2 (fun (mX35_work_77 : Nat → Int) => (((mX35_work_77 (A 0 0)) ≤ 200000 → (∀ mX35_large_79 : Nat → Int, mX35_large_79 = va_up mX35_large (A 0 0) 0 → ((post mX35_work_77 mX35_large_79)))) ∧ (¬ (mX35_work_77 (A 0 0)) ≤ 200000 → (∀ mX35_large_80 : Nat → Int, mX35_large_80 = va_up mX35_large (A 0 0) 1 → ((post mX35_work_77 mX35_large_80)))))) (A 0 0) s kd an ai ar mX35_rules mX35_strata mX35_safe mX35_held mX83_head mX83_parts mX84_sort mX84_name mJ2_elementData mJ2_size fu x2 (va_up mX35_work (A 0 0) (rxM (reWk hd ki fo ln pt st rn s w k.toNat))) := fun sel x2 e2 => by
    rw [e2]
    refine ih _ _ ⟨by omega, ?_⟩ (by omega)
    rw [eW, pif_f sel]
  refine ⟨fun q => ⟨by omega, skip (fun u => (sf.2 u.1) q)⟩, fun q => ⟨fun q1 => CRE_pay64 I ⟨hk.1, by omega⟩ H rH (R2 k hk.1 (by omega)) hh (take ⟨sf.1 q, Or.inl (by omega)⟩), fun q1 => ?_⟩⟩
  obtain ⟨⟨o0, o1, _⟩, ⟨h1, h2, h3, _⟩, _⟩ := R2 k hk.1 (by omega)
  have hd0 := (I.2 k hk.1 (by omega)).1.1
  unfold wpRE_X84_name
  refine kOn_of o1 ⟨h1, kOn_of rT ⟨k2, ?_⟩⟩
  rw [h3, a2, hst _ hd0.1 hd0.2]
  exact ⟨hd0, fun q2 => CRE_pay64 I ⟨hk.1, by omega⟩ H rH (R2 k hk.1 (by omega)) hh (take ⟨sf.1 q, Or.inr q2⟩), fun q2 => ⟨by omega, skip (fun u => u.2.elim (fun u => by omega) q2)⟩⟩
end
