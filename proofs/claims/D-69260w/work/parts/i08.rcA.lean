/-! RuleEngine (room RE): BitSets that grow (printed) -/
def reG (L u : Int) : Int := if u ≤ L then L else if 2 * L < u then u else 2 * L
theorem reG_b {L u : Int} (h : 1 ≤ L ∧ L ≤ 510) (hu : u ≤ 256) : (L ≤ reG L u ∧ reG L u ≤ 510) ∧ u ≤ reG L u := by
  unfold reG
  by_cases a : u ≤ L
  · rw [if_pos a]; omega
  · rw [if_neg a]
    by_cases b : 2 * L < u
    · rw [if_pos b]; omega
    · rw [if_neg b]; omega
/-- a set with its words -/
def bsI (kd an : Nat → Nat) (al : Nat → Int → Int) (wd : Nat → Option Nat) (iu : Nat → Int) (x w : Nat) (L : Int) (P : Int → Prop) : Prop := (wd x = some w ∧ kd w = 11 ∧ (an w : Int) = L) ∧ (1 ≤ L ∧ L ≤ 510) ∧ bsOK L (al w) (iu x) P ∧ ∀ q, P q → (0 ≤ q ∧ q < 16384) ∧ q < 64 * L
/-- what a change to the set x leaves -/
def bsF (kd an : Nat → Nat) (al : Nat → Int → Int) (wd : Nat → Option Nat) (iu : Nat → Int) (x w : Nat) (kd' an' : Nat → Nat) (al' : Nat → Int → Int) (wd' : Nat → Option Nat) (iu' : Nat → Int) (w' : Nat) : Prop := kLe kd an kd' an' ∧ (∀ a, kd a ≠ 0 → a ≠ w → al' a = al a) ∧ (∀ a, a ≠ x → wd' a = wd a ∧ iu' a = iu a) ∧ (w' = w ∨ kd w' = 0)
section
variable {kd an kd' an' kd'' an'' : Nat → Nat} {al al' al'' : Nat → Int → Int} {wd wd' wd'' : Nat → Option Nat} {iu st iu' iu'' : Nat → Int} {x y w v w' w'' : Nat} {L M q u : Int} {P Q : Int → Prop} {MC MS : Nat} {f_ : Int → Int}
theorem bsF.refl : bsF kd an al wd iu x w kd an al wd iu w := ⟨fun _ _ => ⟨rfl, rfl⟩, fun _ _ _ => rfl, fun _ _ => ⟨rfl, rfl⟩, Or.inl rfl⟩
theorem bsF.tr (hw : kd w ≠ 0) (h : bsF kd an al wd iu x w kd' an' al' wd' iu' w') (g : bsF kd' an' al' wd' iu' x w' kd'' an'' al'' wd'' iu'' w'') : bsF kd an al wd iu x w kd'' an'' al'' wd'' iu'' w'' := by
  obtain ⟨h1, h2, h3, h4⟩ := h
  obtain ⟨g1, g2, g3, g4⟩ := g
  refine ⟨kLe_tr h1 g1, fun a k ne => ?_, fun a ne => ?_, ?_⟩
  · have k' := h1 a k
    rw [g2 a (by rw [k'.1]; exact k) (fun e => ?_), h2 a k ne]
    rcases h4 with h4 | h4
    · exact ne (e.trans h4)
    · rw [e] at k; exact k h4
  · have a1 := h3 a ne
    have a2 := g3 a ne
    exact ⟨a2.1.trans a1.1, a2.2.trans a1.2⟩
  · rcases g4 with g4 | g4
    · rw [g4]; exact h4
    · right
      exact Classical.byContradiction (fun k => by
        have := h1 w'' k
        rw [g4] at this; exact k this.1.symm)
/-- another set is left as it is -/
theorem bsI.fr (B : bsI kd an al wd iu y v M Q) (hxy : y ≠ x) (hvw : v ≠ w) (h : bsF kd an al wd iu x w kd' an' al' wd' iu' w') : bsI kd' an' al' wd' iu' y v M Q ∧ v ≠ w' := by
  obtain ⟨⟨b1, b2, b3⟩, b4, b5, b6⟩ := B
  obtain ⟨h1, h2, h3, h4⟩ := h
  have k := h1 v (by rw [b2]; decide)
  have a := h3 y hxy
  refine ⟨⟨⟨a.1.trans b1, k.1.trans b2, by rw [k.2]; exact b3⟩, b4, ?_, b6⟩, fun e => ?_⟩
  · rw [h2 v (by rw [b2]; decide) hvw, a.2]; exact b5
  · rcases h4 with h4 | h4
    · exact hvw (e.trans h4)
    · rw [← e, b2] at h4; exact absurd h4 (by decide)
theorem bsI.c (B : bsI kd an al wd iu x w L P) (e : ∀ q, P q ↔ Q q) : bsI kd an al wd iu x w L Q := ⟨B.1, B.2.1, bsOK_c B.2.2.1 (fun q _ _ => e q), fun q hq => B.2.2.2 q ((e q).2 hq)⟩
theorem bsOK_top (B : bsOK L f_ u P) (hu : 0 < u) : ∃ q, (64 * (u - 1) ≤ q ∧ q < 64 * u) ∧ P q := by
  obtain ⟨b1, b2, b3, b4⟩ := B
  have nz := b2 hu
  have hz : ∃ k, k < 64 ∧ zb (f_ (u - 1)) k = 1 := Classical.byContradiction (fun w => nz (zb_064 (b4.1 _ (by omega) (by omega)) (fun k hk => zb_n0 (fun z => w ⟨k, hk, z⟩))))
  obtain ⟨k, hk, z⟩ := hz
  refine ⟨64 * (u - 1) + k, by omega, (b4.2 _ (by omega) (by omega)).1 ?_⟩
  rw [show (64 * (u - 1) + (k : Int)) / 64 = u - 1 by omega, show ((64 * (u - 1) + (k : Int)) % 64).toNat = k by omega]; exact z
theorem bsI.top (B : bsI kd an al wd iu x w L P) : (0 ≤ iu x ∧ iu x ≤ L) ∧ iu x ≤ 256 := by
  have b := B.2.2.1.1
  refine ⟨b, ?_⟩
  by_cases z : 0 < iu x
  · obtain ⟨q, hq, p⟩ := bsOK_top B.2.2.1 z
    have := B.2.2.2 q p
    omega
  · omega
theorem bsI.e0 (B : bsI kd an al wd iu x w L P) : iu x = 0 ↔ ∀ q, ¬ P q := by
  constructor
  · intro z q p
    have h := B.2.2.2 q p
    exact bsOK_no B.2.2.1 (by omega) h.2 h.1.1 p
  · intro h
    have b := B.2.2.1.1
    by_cases z : 0 < iu x
    · obtain ⟨q, hq, p⟩ := bsOK_top B.2.2.1 z
      exact absurd p (h q)
    · omega
theorem CRE_getG {post : Int → Prop} (B : bsI kd an al wd iu x w L P) (h0 : 0 ≤ q) (h1 : q < 16384) (hp1 : P q → post 1) (hp0 : ¬ P q → post 0) : wpRE_J4_get post kd an al wd iu x q := by
  obtain ⟨⟨b1, b2, b3⟩, b4, b5, b6⟩ := B
  by_cases h : q < 64 * L
  · exact CRE_get (A0 := True) (A1 := True) b1 b2 b3 (by omega) b5 h0 h hp1 hp0
  · unfold wpRE_J4_get wpRE_J4_checkInvariants wpRE_J4_wordIndex
    have b := b5.1
    exact ⟨fun _ => ⟨fun z => hp0 (fun p => h (b6 q p).2), fun z => absurd (show iu x ≤ q / 64 by omega) z⟩, fun z => absurd h0 z⟩
theorem CRE_nsbG {post : Int → Prop} (B : bsI kd an al wd iu x w L P) (h0 : 0 ≤ q) (h1 : q < 2147483648) (hp1 : ∀ r, q ≤ r → P r → (∀ j, q ≤ j → j < r → ¬ P j) → post r) (hp0 : (∀ j, q ≤ j → ¬ P j) → post (-1)) : wpRE_J4_nextSetBit post kd an al wd iu x q := by
  obtain ⟨⟨b1, b2, b3⟩, b4, b5, b6⟩ := B
  exact CRE_nsb b1 b2 b3 (by omega) b5 h0 h1 (fun r r0 _ p n => hp1 r r0 p n) (fun n => hp0 (fun j a p => n j a (b6 j p).2 p))
theorem CRE_clearG {post : (Nat → Int → Int) → (Nat → Int) → Prop} (B : bsI kd an al wd iu x w L P) (hp : ∀ al' iu', bsF kd an al wd iu x w kd an al' wd iu' w → bsI kd an al' wd iu' x w L (fun _ => False) → post al' iu') : wpRE_J4_clear_2 post kd an al wd iu x := by
  obtain ⟨⟨b1, b2, b3⟩, b4, b5, b6⟩ := B
  refine CRE_clear b1 b2 b3 (by omega) b5 (fun f hf => hp _ _ ⟨fun _ _ => ⟨rfl, rfl⟩, fun a _ ne => va_up_ne _ _ ne, fun a ne => ⟨rfl, va_up_ne _ _ ne⟩, Or.inl rfl⟩ ⟨⟨b1, b2, b3⟩, b4, ?_, fun q z => z.elim⟩)
  rw [va_up_self, va_up_self]; exact hf
theorem CRE_cardG {post : Int → Prop} (B : bsI kd an al wd iu x w L P) (hp : post (cntI P 16384)) : wpRE_J4_cardinality post kd an al wd iu x := by
  obtain ⟨⟨b1, b2, b3⟩, b4, b5, b6⟩ := B
  refine CRE_card b1 b2 b3 (by omega) b5 ?_
  have e : cntI P (64 * L).toNat = cntI P 16384 := by
    rcases Nat.le_total (64 * L).toNat 16384 with h | h
    · exact cntI_up h (fun i a b p => by have := (b6 i p).2; omega)
    · exact (cntI_up h (fun i a b p => by have := (b6 i p).1.2; omega)).symm
  rw [e]; exact hp
/-- a new row of words -/
theorem CRE_ensG {post : (Nat → Nat) → (Nat → Nat) → (Nat → Int → Int) → (Nat → Option Nat) → (Nat → Int) → Prop} {n : Int} (e : wd x = some w) (kw : kd w = 11) (lw : (an w : Int) = L) (hL : 1 ≤ L ∧ L ≤ 510) (hn : n ≤ 256) (hMC : reG L n - L ≤ MC) (hMS : 2 * (reG L n - L) ≤ MS) (h0 : n ≤ L → post kd an al wd st)
  (h1 : ¬ n ≤ L → ∀ p, kd p = 0 → ∀ g : Int → Int, (∀ j, 0 ≤ j → j < L → g j = al w j) → (∀ j, L ≤ j → g j = 0) → post (va_up kd p 11) (va_up an p (reG L n).toNat) (va_up al p g) (va_up wd x (some p)) (va_up st x 0)) : wpRE_J4_ensureCapacity MC MS post kd an al wd st x n := by
  unfold wpRE_J4_ensureCapacity
  refine kOn_of e ⟨kw, by omega, fun z => ⟨Nat.zero_le _, Nat.zero_le _, h0 (by omega)⟩, fun z => ⟨⟨Nat.zero_le _, Nat.zero_le _⟩, by omega, fun x2 e2 => ?_⟩⟩
  have nl : ¬ n ≤ L := by omega
  have eG : x2 = reG L n := by rw [e2, lw]; unfold reG; rw [if_neg nl]
  have gb := (reG_b hL hn)
  have hG : L < reG L n ∧ reG L n ≤ 2 * (reG L n - L) := by
    unfold reG
    rw [if_neg nl]
    by_cases b : 2 * L < n
    · rw [if_pos b]; omega
    · rw [if_neg b]; omega
  rw [eG]
  refine ⟨1, (reG L n).toNat, ⟨by omega, by omega⟩, ?_⟩
  unfold wpRE_J12_copyOf_3
  refine kOn_of e ⟨kw, by omega, fun z => by omega, fun z => ⟨⟨by omega, ?_⟩, ⟨by omega, by omega⟩, fun p hp _ e3 _ e4 _ e5 => ?_⟩⟩
  · show (reG L n).toNat * 8 ≤ 536870912
    omega
  have wp_ : w ≠ p := fun z => by rw [z, hp] at kw; exact absurd kw (by decide)
  subst e3 e4 e5
  rw [va_up_ne _ _ wp_]
  refine ⟨by omega, ⟨by omega, by omega⟩, ⟨by decide, by decide, ?_, ?_, ?_⟩, fun _ e6 => ⟨by omega, by omega, fun _ _ e7 _ e8 => ⟨by omega, by omega, ?_⟩⟩⟩
  · split <;> omega
  · split <;> omega
  · rw [va_up_self]; split <;> omega
  rw [if_neg (by omega), va_up_self, va_up_up, va_up_ne _ _ wp_] at e6
  subst e6 e7 e8
  refine h1 nl p hp _ (fun j j0 j1 => ?_) (fun j j0 => ?_)
  · rw [zcpy_in j0 (by omega), Int.zero_add, Int.sub_zero]
  · rw [zcpy_out (Or.inr (by omega))]
theorem bsOK_set {f : Int → Int} (B : bsOK L f u P) (h0 : 0 ≤ q) (h1 : q / 64 + 1 ≤ L) (hL : L ≤ 510) : bsOK L (updI f (q / 64) (zLor (f (q / 64)) (zLshl 1 q))) (if q / 64 + 1 ≤ u then u else q / 64 + 1) (fun r => P r ∨ r = q) := by
  obtain ⟨b1, b2, b3, b4⟩ := B
  have sh := zLshl_1 h0 (by omega)
  have nz : zLor (f (q / 64)) (zLshl 1 q) ≠ 0 := zLor_n (b4.1 _ (by omega) (by omega)) sh.1 (Or.inr (fun z => by
    have := (sh.2 (q % 64).toNat (by omega)).2 (by omega)
    rw [z, zb_zero] at this
    exact absurd this (by decide)))
  refine ⟨by split <;> omega, fun z => ?_, fun j j0 j1 => ?_, bsW_set b4 h0 (by omega) (by omega)⟩
  · by_cases a : q / 64 + 1 ≤ u
    · rw [if_pos a] at z ⊢
      by_cases e : u - 1 = q / 64
      · rw [e, updI_s]; exact nz
      · rw [updI_n e]; exact b2 z
    · rw [if_neg a, show q / 64 + 1 - 1 = q / 64 by omega, updI_s]; exact nz
  · have : j ≠ q / 64 ∧ u ≤ j := by
      revert j0
      split <;> omega
    rw [updI_n this.1]; exact b3 j this.2 j1
/-- more words that are 0 -/
theorem bsOK_more {f g : Int → Int} (B : bsOK L f u P) (hM : L ≤ M) (h1 : ∀ j, 0 ≤ j → j < L → g j = f j) (h2 : ∀ j, L ≤ j → g j = 0) (hP : ∀ q, P q → q < 64 * L) : bsOK M g u P := by
  obtain ⟨b1, b2, b3, b4⟩ := B
  refine ⟨by omega, fun z => by rw [h1 _ (by omega) (by omega)]; exact b2 z, fun j j0 j1 => ?_, fun j j0 j1 => ?_, fun q q0 q1 => ?_⟩
  · by_cases z : j < L
    · rw [h1 j (by omega) z]; exact b3 j j0 z
    · exact h2 j (by omega)
  · by_cases z : j < L
    · rw [h1 j j0 z]; exact b4.1 j j0 z
    · rw [h2 j (by omega)]; decide
  · by_cases z : q < 64 * L
    · rw [h1 _ (by omega) (by omega)]; exact b4.2 q q0 z
    · rw [h2 _ (by omega), zb_zero]
      exact ⟨fun w => absurd w (by decide), fun p => absurd (hP q p) z⟩
theorem CRE_setG {post : (Nat → Nat) → (Nat → Nat) → (Nat → Int → Int) → (Nat → Option Nat) → (Nat → Int) → (Nat → Int) → Prop} (B : bsI kd an al wd iu x w L P) (h0 : 0 ≤ q) (h1 : q < 16384) (hMC : reG L (q / 64 + 1) - L ≤ MC) (hMS : 2 * (reG L (q / 64 + 1) - L) ≤ MS)
  (hp : ∀ kd' an' al' wd' iu' st' w', bsF kd an al wd iu x w kd' an' al' wd' iu' w' → bsI kd' an' al' wd' iu' x w' (reG L (q / 64 + 1)) (fun r => P r ∨ r = q) → post kd' an' al' wd' iu' st') : wpRE_J4_set_2 MC MS post kd an al wd iu st x q := by
  obtain ⟨⟨b1, b2, b3⟩, b4, b5, b6⟩ := B
  have gb := reG_b b4 (show q / 64 + 1 ≤ 256 by omega)
  have fin : ∀ q', (P q' ∨ q' = q) → (0 ≤ q' ∧ q' < 16384) ∧ q' < 64 * reG L (q / 64 + 1) := fun q' h => by
    rcases h with h | h
    · have := b6 q' h; omega
    · rw [h]; omega
  have ub := b5.1
  unfold wpRE_J4_set_2 wpRE_J4_wordIndex
  refine ⟨fun _ => ⟨⟨Nat.zero_le _, Nat.zero_le _⟩, (reG L (q / 64 + 1) - L).toNat, (2 * (reG L (q / 64 + 1) - L)).toNat, ⟨by omega, by omega⟩, ?_⟩, fun z => absurd h0 z⟩
  unfold wpRE_J4_expandTo
  refine ⟨by omega, fun x2 e2 => ⟨fun z => ⟨Nat.zero_le _, Nat.zero_le _, fun _ => kOn_of b1 ⟨b2, by omega, fun _ e3 _ e4 => ⟨⟨by omega, by omega⟩, ?_⟩⟩⟩, fun z => ?_⟩⟩
  · have eg : reG L (q / 64 + 1) = L := by unfold reG; rw [if_pos (by omega)]
    unfold wpRE_J4_checkInvariants
    refine ⟨by omega, by omega, ?_⟩
    subst e3 e4
    have S := bsOK_set b5 h0 (by omega) b4.2
    rw [if_pos (by omega)] at S
    rw [eg] at hp fin
    refine hp kd an _ wd iu st w ⟨fun _ _ => ⟨rfl, rfl⟩, fun a _ ne => va_up_ne _ _ ne, fun _ _ => ⟨rfl, rfl⟩, Or.inl rfl⟩ ⟨⟨b1, b2, b3⟩, b4, ?_, fin⟩
    rw [va_up_self]; exact S
  · refine ⟨(reG L (q / 64 + 1) - L).toNat, (2 * (reG L (q / 64 + 1) - L)).toNat, ⟨by omega, by omega⟩, ?_⟩
    rw [e2]
    refine CRE_ensG b1 b2 b3 b4 (by omega) (by omega) (by omega) (fun nl => fun _ _ e3 => ⟨by omega, by omega, fun _ => kOn_of b1 ⟨b2, by omega, fun _ e4 _ e5 => ⟨⟨by omega, by omega⟩, ?_⟩⟩⟩) (fun nl p hp0 g g1 g2 => fun _ _ e3 => ⟨by omega, by omega, fun _ => kOn_of (va_up_self _ _ _) ⟨va_up_self _ _ _, ?_, fun _ e4 _ e5 => ⟨⟨by omega, by omega⟩, ?_⟩⟩⟩)
    · have eg : reG L (q / 64 + 1) = L := by unfold reG; rw [if_pos nl]
      unfold wpRE_J4_checkInvariants
      refine ⟨by omega, by omega, ?_⟩
      subst e3 e4 e5
      have S := bsOK_set b5 h0 (by omega) b4.2
      rw [if_neg (by omega)] at S
      rw [eg] at hp fin
      refine hp kd an _ wd _ st w ⟨fun _ _ => ⟨rfl, rfl⟩, fun a _ ne => va_up_ne _ _ ne, fun a ne => ⟨rfl, va_up_ne _ _ ne⟩, Or.inl rfl⟩ ⟨⟨b1, b2, b3⟩, b4, ?_, fin⟩
      rw [va_up_self, va_up_self]; exact S
    · rw [va_up_self]; omega
    · have wp_ : w ≠ p := fun z => by rw [z, hp0] at b2; exact absurd b2 (by decide)
      unfold wpRE_J4_checkInvariants
      refine ⟨by omega, by omega, ?_⟩
      subst e3 e4 e5
      have S := bsOK_set (bsOK_more b5 gb.1.1 g1 g2 (fun q' h => (b6 q' h).2)) h0 (by omega) gb.1.2
      rw [if_neg (by omega)] at S
      refine hp _ _ _ _ _ _ p ⟨kLe_new hp0 (fun a ne => va_up_ne _ _ ne), fun a ka ne => ?_, fun a ne => ⟨va_up_ne _ _ ne, va_up_ne _ _ ne⟩, Or.inr hp0⟩ ⟨⟨va_up_self _ _ _, va_up_self _ _ _, by rw [va_up_self]; omega⟩, by omega, ?_, fin⟩
      · have : a ≠ p := fun z => by rw [z] at ka; exact ka hp0
        rw [va_up_ne _ _ this, va_up_ne _ _ this]
      · rw [va_up_self, va_up_self, va_up_self]; exact S
theorem CRE_clrG {post : (Nat → Int → Int) → (Nat → Int) → Prop} (B : bsI kd an al wd iu x w L P) (h0 : 0 ≤ q) (h1 : q < 16384) (hp : ∀ al' iu', bsF kd an al wd iu x w kd an al' wd iu' w → bsI kd an al' wd iu' x w L (fun r => P r ∧ r ≠ q) → post al' iu') : wpRE_J4_clear post kd an al wd iu x q := by
  obtain ⟨⟨b1, b2, b3⟩, b4, b5, b6⟩ := B
  obtain ⟨c1, c2, c3, c4⟩ := id b5
  unfold wpRE_J4_clear wpRE_J4_wordIndex
  refine ⟨fun _ => ⟨fun z1 => kOn_of b1 ⟨b2, by omega, fun _ e1 _ e2 => ?_⟩, fun z1 => ?_⟩, fun y => absurd h0 y⟩
  · subst e1 e2
    have hW := bsW_clr c4 h0 (show q < 64 * L by omega) (by omega)
    refine CRE_recalc (al := va_up al w _) b1 b2 b3 (by omega) c1 (fun j c d => ?_) (fun u u1 u2 u3 => ?_)
    · rw [va_up_self, updI_n (by omega)]; exact c3 j c d
    · rw [va_up_self] at u2 u3
      unfold wpRE_J4_checkInvariants
      refine hp _ _ ⟨fun _ _ => ⟨rfl, rfl⟩, fun a _ ne => va_up_ne _ _ ne, fun a ne => ⟨rfl, va_up_ne _ _ ne⟩, Or.inl rfl⟩ ⟨⟨b1, b2, b3⟩, b4, ?_, fun r h => b6 r h.1⟩
      rw [va_up_self, va_up_self]
      exact ⟨u1, u2, u3, hW⟩
  · refine hp al iu bsF.refl ⟨⟨b1, b2, b3⟩, b4, bsOK_c b5 (fun r c d => ⟨fun p => ⟨p, fun e => ?_⟩, fun p => p.1⟩), fun r h => b6 r h.1⟩
    rw [e] at p c d
    exact bsOK_no b5 (by omega) d c p
theorem CRE_o47 {K : (Nat → Int → Int) → Prop} {m : Int} (e : wd x = some w) (e' : wd y = some v) (ky : kd y = 8) (kw : kd w = 11) (kv : kd v = 11) (lw : (an w : Int) = L) (lv : (an v : Int) = M) (hL : L ≤ 100000) (hwv : w ≠ v) (hm : 0 ≤ m ∧ m ≤ L ∧ m ≤ M)
    (hp : ∀ f, (∀ j, 0 ≤ j → j < m → f j = zLor (al w j) (al v j)) → (∀ j, m ≤ j → f j = al w j) → K (va_up al w f)) : ∃ fu, wRE_J4_or_47 MC MS K x (some y) m kd an wd fu 0 al := by
  refine wl2 (fun n i a => wRE_J4_or_47 MC MS K x (some y) m kd an wd n i a) (fun i a => (0 ≤ i ∧ i ≤ m) ∧ ∃ f, a = va_up al w f ∧ (∀ j, 0 ≤ j → j < i → f j = zLor (al w j) (al v j)) ∧ ∀ j, i ≤ j → f j = al w j) (fun i a => (m - i).toNat) ?_ 0 al ⟨by omega, al w, (va_up_id rfl).symm, fun j a b => by omega, fun j _ => rfl⟩
  rintro i a ⟨hi, f, rfl, h1, h2⟩ n ih
  rw [wRE_J4_or_47]
  refine ⟨fun z => ?_, fun z => kOn_of e ⟨kw, by omega, kOn_some ⟨ky, kOn_of e' ⟨kv, by omega, fun _ e1 _ e2 => ⟨by omega, fun _ e3 => ?_⟩⟩⟩⟩⟩
  · have : i = m := by omega
    subst this
    exact hp f h1 h2
  · rw [va_up_self, va_up_ne _ _ hwv.symm] at e1
    subst e1 e2 e3
    rw [va_up_self, va_up_up]
    refine ih _ _ ⟨by omega, _, rfl, fun j a b => ?_, fun j a => ?_⟩ (by omega)
    · by_cases h : j = i
      · rw [h, updI_s, h2 i (Int.le_refl _)]
      · rw [updI_n h]; exact h1 j a (by omega)
    · rw [updI_n (by omega)]; exact h2 j (by omega)
/-- words of two sets together -/
theorem bsOK_or {f a b : Int → Int} {N u1 u2 m : Int} (A : bsOK L a u1 P) (B : bsOK M b u2 Q) (hA : ∀ q, P q → q < 64 * L) (hB : ∀ q, Q q → q < 64 * M) (hN : L ≤ N ∧ u2 ≤ N) (hm : m = if u2 < u1 then u2 else u1) (h1 : ∀ j, 0 ≤ j → j < m → f j = zLor (a j) (b j)) (h2 : ∀ j, m ≤ j → j < N → f j = if u1 ≤ j then (if j < u2 then b j else 0) else a j) : bsOK N f (if u2 < u1 then u1 else u2) (fun q => P q ∨ Q q) := by
  obtain ⟨a1, a2, a3, a4⟩ := id A
  obtain ⟨b1, b2, b3, b4⟩ := id B
  have em : m ≤ u1 ∧ m ≤ u2 := by rw [hm]; split <;> omega
  have hP : ∀ q, 0 ≤ q → (P q → q < 64 * u1) := fun q q0 p => Classical.byContradiction (fun z => bsOK_no A (by omega) (hA q p) q0 p)
  have hQ : ∀ q, 0 ≤ q → (Q q → q < 64 * u2) := fun q q0 p => Classical.byContradiction (fun z => bsOK_no B (by omega) (hB q p) q0 p)
  refine ⟨by split <;> omega, fun z => ?_, fun j j0 j1 => ?_, fun j j0 j1 => ?_, fun q q0 q1 => ?_⟩
  · by_cases c : u2 < u1
    · rw [if_pos c] at z ⊢
      rw [if_pos c] at hm
      rw [h2 _ (by omega) (by omega), if_neg (by omega)]
      exact a2 z
    · rw [if_neg c] at z ⊢
      rw [if_neg c] at hm
      by_cases d : u1 = u2
      · rw [h1 _ (by omega) (by omega)]
        exact zLor_n (a4.1 _ (by omega) (by omega)) (b4.1 _ (by omega) (by omega)) (Or.inr (b2 z))
      · rw [h2 _ (by omega) (by omega), if_pos (by omega), if_pos (by omega)]
        exact b2 z
  · have hj : u1 ≤ j ∧ u2 ≤ j := by
      revert j0
      split <;> omega
    rw [h2 _ (by omega) (by omega), if_pos hj.1, if_neg (by omega)]
  · by_cases c : j < m
    · rw [h1 j j0 c]; exact zr_or64 _ _
    · rw [h2 j (by omega) j1]
      by_cases d : u1 ≤ j
      · rw [if_pos d]
        by_cases e : j < u2
        · rw [if_pos e]; exact b4.1 j j0 (by omega)
        · rw [if_neg e]; decide
      · rw [if_neg d]; exact a4.1 j j0 (by omega)
  · have j0 : 0 ≤ q / 64 := by omega
    by_cases c : q / 64 < m
    · rw [h1 _ j0 c, zb_or64 (a4.1 _ j0 (by omega)) (b4.1 _ j0 (by omega)) (by omega), a4.2 q q0 (by omega), b4.2 q q0 (by omega)]
    · rw [h2 _ (by omega) (by omega)]
      by_cases d : u1 ≤ q / 64
      · rw [if_pos d]
        by_cases e : q / 64 < u2
        · rw [if_pos e, b4.2 q q0 (by omega)]
          exact ⟨Or.inr, fun z => z.elim (fun p => by have := hP q q0 p; omega) id⟩
        · rw [if_neg e, zb_zero]
          exact ⟨fun z => absurd z (by decide), fun z => z.elim (fun p => by have := hP q q0 p; omega) (fun p => by have := hQ q q0 p; omega)⟩
      · rw [if_neg d, a4.2 q q0 (by omega)]
        refine ⟨Or.inl, fun z => z.elim id (fun p => ?_)⟩
        have := hQ q q0 p
        rw [hm] at c
        split at c <;> omega
theorem CRE_orG {post : (Nat → Nat) → (Nat → Nat) → (Nat → Int → Int) → (Nat → Option Nat) → (Nat → Int) → (Nat → Int) → Prop} (B : bsI kd an al wd iu x w L P) (C : bsI kd an al wd iu y v M Q) (ky : kd y = 8) (hxy : x ≠ y) (hwv : w ≠ v) (hMC : reG L (iu y) - L ≤ MC) (hMS : 2 * (reG L (iu y) - L) ≤ MS)
    (hp : ∀ kd' an' al' wd' iu' st' w', bsF kd an al wd iu x w kd' an' al' wd' iu' w' → bsI kd' an' al' wd' iu' x w' (reG L (iu y)) (fun r => P r ∨ Q r) → post kd' an' al' wd' iu' st') : wpRE_J4_or MC MS post kd an al wd iu st x (some y) := by
  have cu := C.top
  have bu := B.top
  obtain ⟨⟨b1, b2, b3⟩, b4, b5, b6⟩ := B
  obtain ⟨⟨c1, c2, c3⟩, c4, c5, c6⟩ := C
  have gb := reG_b b4 (u := iu y) (by omega)
  have fin : ∀ q', (P q' ∨ Q q') → (0 ≤ q' ∧ q' < 16384) ∧ q' < 64 * reG L (iu y) := fun q' h => by
    rcases h with h | h
    · have := b6 q' h; omega
    · have h2 := c6 q' h
      have : q' < 64 * iu y := Classical.byContradiction (fun z => bsOK_no c5 (by omega) h2.2 h2.1.1 h)
      omega
  unfold wpRE_J4_or
  refine ⟨fun z => absurd (Option.some.inj z) hxy, fun _ => kOn_some ⟨ky, ⟨Nat.zero_le _, Nat.zero_le _⟩, fun m em => ⟨fun z => ?_, fun z => ?_⟩⟩⟩
  · have eg : reG L (iu y) = L := by unfold reG; rw [if_pos (by omega)]
    have em2 : m = iu y := by rw [em]; split <;> omega
    refine CRE_o47 b1 c1 ky b2 c2 b3 c3 (by omega) hwv (by omega) (fun f f1 f2 => kOn_some ⟨ky, fun _ => ⟨⟨Nat.zero_le _, Nat.zero_le _⟩, ?_⟩, fun z2 => by omega⟩)
    unfold wpRE_J4_checkInvariants
    refine ⟨Nat.zero_le _, Nat.zero_le _, ?_⟩
    rw [eg] at hp fin
    have S := bsOK_or (N := L) b5 c5 (fun q h => (b6 q h).2) (fun q h => (c6 q h).2) ⟨Int.le_refl _, by omega⟩ em f1 (fun j j0 j1 => by
      rw [f2 j j0]
      by_cases d : iu x ≤ j
      · rw [if_pos d, if_neg (by omega)]; exact b5.2.2.1 j d j1
      · rw [if_neg d])
    have eu : (if iu y < iu x then iu x else iu y) = iu x := by split <;> omega
    rw [eu] at S
    refine hp kd an _ wd iu st w ⟨fun _ _ => ⟨rfl, rfl⟩, fun a _ ne => va_up_ne _ _ ne, fun _ _ => ⟨rfl, rfl⟩, Or.inl rfl⟩ ⟨⟨b1, b2, b3⟩, b4, ?_, fin⟩
    rw [va_up_self]; exact S
  · have em2 : m = iu x := by rw [em]; split <;> omega
    have eu : (if iu y < iu x then iu x else iu y) = iu y := by split <;> omega
    refine ⟨(reG L (iu y) - L).toNat, (2 * (reG L (iu y) - L)).toNat, ⟨by omega, by omega⟩, ?_⟩
    refine CRE_ensG b1 b2 b3 b4 (by omega) (by omega) (by omega) (fun nl => fun _ _ e3 _ e4 => ?_) (fun nl p hp0 g g1 g2 => fun kl _ e3 _ e4 => ?_)
    · have eg : reG L (iu y) = L := by unfold reG; rw [if_pos nl]
      subst e3 e4
      refine CRE_o47 b1 c1 ky b2 c2 b3 c3 (by omega) hwv (by omega) (fun f f1 f2 => kOn_some ⟨ky, ?_⟩)
      rw [va_up_ne _ _ hxy.symm, va_up_self]
      refine ⟨fun z2 => by omega, fun _ => ⟨by omega, kOn_of b1 (kOn_of c1 ⟨b2, c2, ⟨by omega, by omega, by omega, by omega, by omega⟩, fun _ e5 => ⟨⟨by omega, by omega⟩, ?_⟩⟩)⟩⟩
      unfold wpRE_J4_checkInvariants
      refine ⟨by omega, by omega, ?_⟩
      rw [va_up_self, va_up_ne _ _ hwv.symm, va_up_up] at e5
      subst e5
      rw [eg] at hp fin
      have S := bsOK_or (N := L) (f := zcpy (al v) f m m (iu y - m)) b5 c5 (fun q h => (b6 q h).2) (fun q h => (c6 q h).2) ⟨Int.le_refl _, by omega⟩ em (fun j j0 j1 => by rw [zcpy_out (Or.inl j1)]; exact f1 j j0 j1) (fun j j0 j1 => by
        rw [if_pos (by omega)]
        by_cases d : j < iu y
        · rw [if_pos d, zcpy_in j0 (by omega), show m + (j - m) = j by omega]
        · rw [if_neg d, zcpy_out (Or.inr (by omega)), f2 j j0]; exact b5.2.2.1 j (by omega) j1)
      rw [eu] at S
      refine hp kd an _ wd _ st w ⟨fun _ _ => ⟨rfl, rfl⟩, fun a _ ne => va_up_ne _ _ ne, fun a ne => ⟨rfl, va_up_ne _ _ ne⟩, Or.inl rfl⟩ ⟨⟨b1, b2, b3⟩, b4, ?_, fin⟩
      rw [va_up_self, va_up_self]; exact S
    · have wp_ : w ≠ p := fun z => by rw [z, hp0] at b2; exact absurd b2 (by decide)
      have vp_ : v ≠ p := fun z => by rw [z, hp0] at c2; exact absurd c2 (by decide)
      have yp_ : y ≠ p := fun z => by rw [z, hp0] at ky; exact absurd ky (by decide)
      subst e3 e4
      have ev : va_up al p g v = al v := va_up_ne _ _ vp_
      refine CRE_o47 (L := reG L (iu y)) (M := M) (w := p) (v := v) (va_up_self _ _ _) (by rw [va_up_ne _ _ hxy.symm]; exact c1) (by rw [va_up_ne _ _ yp_]; exact ky) (va_up_self _ _ _) (by rw [va_up_ne _ _ vp_]; exact c2) (by rw [va_up_self]; omega) (by rw [va_up_ne _ _ vp_]; exact c3) (by omega) vp_.symm (by omega) (fun f f1 f2 => kOn_some ⟨by rw [va_up_ne _ _ yp_]; exact ky, ?_⟩)
      rw [va_up_self] at f1 f2
      rw [ev] at f1
      rw [va_up_ne _ _ hxy.symm, va_up_self]
      refine ⟨fun z2 => by omega, fun _ => ⟨by omega, kOn_of (va_up_self _ _ _) (kOn_of (by rw [va_up_ne _ _ hxy.symm]; exact c1) ⟨va_up_self _ _ _, by rw [va_up_ne _ _ vp_]; exact c2, ⟨by omega, by omega, by omega, by rw [va_up_ne _ _ vp_]; omega, by rw [va_up_self]; omega⟩, fun _ e5 => ⟨⟨by omega, by omega⟩, ?_⟩⟩)⟩⟩
      unfold wpRE_J4_checkInvariants
      refine ⟨by omega, by omega, ?_⟩
      rw [va_up_self, va_up_up, va_up_up, va_up_ne _ _ vp_] at e5
      subst e5
      have S := bsOK_or (N := reG L (iu y)) (f := zcpy (al v) f m m (iu y - m)) b5 c5 (fun q h => (b6 q h).2) (fun q h => (c6 q h).2) ⟨gb.1.1, gb.2⟩ em (fun j j0 j1 => by rw [zcpy_out (Or.inl j1), f1 j j0 j1, g1 j j0 (by omega)]) (fun j j0 j1 => by
        rw [if_pos (by omega)]
        by_cases d : j < iu y
        · rw [if_pos d, zcpy_in j0 (by omega), show m + (j - m) = j by omega]
        · rw [if_neg d, zcpy_out (Or.inr (by omega)), f2 j j0]
          by_cases d2 : j < L
          · rw [g1 j (by omega) d2]; exact b5.2.2.1 j (by omega) d2
          · exact g2 j (by omega))
      rw [eu] at S
      refine hp _ _ _ _ _ _ p ⟨kLe_new hp0 (fun a ne => va_up_ne _ _ ne), fun a ka ne => ?_, fun a ne => ⟨va_up_ne _ _ ne, va_up_ne _ _ ne⟩, Or.inr hp0⟩ ⟨⟨va_up_self _ _ _, va_up_self _ _ _, by rw [va_up_self]; omega⟩, by omega, ?_, fin⟩
      · have : a ≠ p := fun z => by rw [z] at ka; exact ka hp0
        rw [va_up_ne _ _ this]
      · rw [va_up_self, va_up_self]
        first
          | exact S
          | (rw [ev]; exact S)
/-- codes by bits -/
theorem reZo {n a b : Int} (h : reFc n a b) : zor (zor (n * 1024) (a * 32)) b = reCd n a b := by
  obtain ⟨h1, h2, h3⟩ := h
  refine zb_ext32 (zr_or32 _ _) (by unfold reCd; omega) (fun k hk => ?_)
  rw [zb_or32 (zr_or32 _ _) (by omega) hk, zb_or32 (by omega) (by omega) hk]
  unfold reCd zb
  have hk' : k = 0 ∨ k = 1 ∨ k = 2 ∨ k = 3 ∨ k = 4 ∨ k = 5 ∨ k = 6 ∨ k = 7 ∨ k = 8 ∨ k = 9 ∨ k = 10 ∨ k = 11 ∨ k = 12 ∨ k = 13 ∨ k = 14 ∨ k = 15 ∨ k = 16 ∨ k = 17 ∨ k = 18 ∨ k = 19 ∨ k = 20 ∨ k = 21 ∨ k = 22 ∨ k = 23 ∨ k = 24 ∨ k = 25 ∨ k = 26 ∨ k = 27 ∨ k = 28 ∨ k = 29 ∨ k = 30 ∨ k = 31 := by omega
  rcases hk' with rfl | rfl | rfl | rfl | rfl | rfl | rfl | rfl | rfl | rfl | rfl | rfl | rfl | rfl | rfl | rfl | rfl | rfl | rfl | rfl | rfl | rfl | rfl | rfl | rfl | rfl | rfl | rfl | rfl | rfl | rfl | rfl
  · rw [show (2 : Int) ^ 0 = 1 from rfl]; omega
  · rw [show (2 : Int) ^ 1 = 2 from rfl]; omega
  · rw [show (2 : Int) ^ 2 = 4 from rfl]; omega
  · rw [show (2 : Int) ^ 3 = 8 from rfl]; omega
  · rw [show (2 : Int) ^ 4 = 16 from rfl]; omega
  · rw [show (2 : Int) ^ 5 = 32 from rfl]; omega
  · rw [show (2 : Int) ^ 6 = 64 from rfl]; omega
  · rw [show (2 : Int) ^ 7 = 128 from rfl]; omega
  · rw [show (2 : Int) ^ 8 = 256 from rfl]; omega
  · rw [show (2 : Int) ^ 9 = 512 from rfl]; omega
  · rw [show (2 : Int) ^ 10 = 1024 from rfl]; omega
  · rw [show (2 : Int) ^ 11 = 2048 from rfl]; omega
  · rw [show (2 : Int) ^ 12 = 4096 from rfl]; omega
  · rw [show (2 : Int) ^ 13 = 8192 from rfl]; omega
  · rw [show (2 : Int) ^ 14 = 16384 from rfl]; omega
  · rw [show (2 : Int) ^ 15 = 32768 from rfl]; omega
  · rw [show (2 : Int) ^ 16 = 65536 from rfl]; omega
  · rw [show (2 : Int) ^ 17 = 131072 from rfl]; omega
  · rw [show (2 : Int) ^ 18 = 262144 from rfl]; omega
  · rw [show (2 : Int) ^ 19 = 524288 from rfl]; omega
  · rw [show (2 : Int) ^ 20 = 1048576 from rfl]; omega
  · rw [show (2 : Int) ^ 21 = 2097152 from rfl]; omega
  · rw [show (2 : Int) ^ 22 = 4194304 from rfl]; omega
  · rw [show (2 : Int) ^ 23 = 8388608 from rfl]; omega
  · rw [show (2 : Int) ^ 24 = 16777216 from rfl]; omega
  · rw [show (2 : Int) ^ 25 = 33554432 from rfl]; omega
  · rw [show (2 : Int) ^ 26 = 67108864 from rfl]; omega
  · rw [show (2 : Int) ^ 27 = 134217728 from rfl]; omega
  · rw [show (2 : Int) ^ 28 = 268435456 from rfl]; omega
  · rw [show (2 : Int) ^ 29 = 536870912 from rfl]; omega
  · rw [show (2 : Int) ^ 30 = 1073741824 from rfl]; omega
  · rw [show (2 : Int) ^ 31 = 2147483648 from rfl]; omega
theorem CRE_code {post : Int → Prop} {n a b : Int} (h : reFc n a b) (hp : post (reCd n a b)) : wpRE_X35_code post n a b := by
  unfold wpRE_X35_code
  rw [reZo h]; exact hp
end
