/-! BS2: BitSets of room RD (printed off a template) -/
theorem CRD_l2 {post : Int → Prop} {a n : Int} (ha : 0 ≤ a ∧ a < 2147483648) (hn : 0 ≤ n ∧ n ≤ 40) (hp : post (zl2_ a n)) : wRD_J3_numberOfTrailingZeros_62 post a n := by
  unfold wRD_J3_numberOfTrailingZeros_62
  unfold zl2_ at hp
  refine ⟨fun z => ?_, fun z _ e1 _ e2 => ?_⟩
  · rw [if_pos z] at hp
    rw [show a % 4294967296 = a by omega, w32_id (by omega)]; exact hp
  · rw [if_neg z] at hp
    subst e1 e2
    rw [show a % 4294967296 = a by omega, show a / 4 % 4294967296 = a / 4 by omega, w32_id (x := n + 2) (by omega), w32_id (by omega)]; exact hp
theorem CRD_l4 {post : Int → Prop} {a n : Int} (ha : 0 ≤ a ∧ a < 2147483648) (hn : 0 ≤ n ∧ n ≤ 20) (hp : post (zl8_ a n)) : wRD_J3_numberOfTrailingZeros_34 post a n := by
  unfold wRD_J3_numberOfTrailingZeros_34
  unfold zl8_ zl4_ at hp
  refine ⟨fun z => ⟨fun z2 => ?_, fun z2 _ e1 _ e2 => ?_⟩, fun z _ e1 _ e2 => ⟨fun z2 => ?_, fun z2 _ e3 _ e4 => ?_⟩⟩
  · rw [if_pos z, if_pos z2] at hp
    exact CRD_l2 ha (by omega) hp
  · rw [if_pos z, if_neg z2] at hp
    subst e1 e2
    rw [show a % 4294967296 = a by omega, w32_id (by omega)]
    exact CRD_l2 (by omega) (by omega) hp
  · rw [show a % 4294967296 = a by omega] at e2
    subst e1 e2
    rw [if_neg z, if_pos z2] at hp
    rw [w32_id (by omega)]
    exact CRD_l2 (by omega) (by omega) hp
  · rw [show a % 4294967296 = a by omega] at e2
    subst e1 e2
    rw [if_neg z, if_neg z2] at hp
    rw [show a / 256 % 4294967296 = a / 256 by omega] at e4
    rw [w32_id (x := n + 8) (by omega), w32_id (by omega)] at e3
    subst e3 e4
    exact CRD_l2 (by omega) (by omega) hp
theorem CRD_ntz32 {post : Int → Prop} {x : Int} (hx : zR x) (hn : x ≠ 0) (hp : ∀ t : Nat, t < 32 → zb x t = 1 → (∀ j, j < t → zb x j = 0) → post t) : wpRD_J3_numberOfTrailingZeros post x := by
  have hz : ∃ k, k < 32 ∧ zb x k = 1 := Classical.byContradiction (fun q => hn (zb_032 hx (fun k hk => zb_n0 (fun w => q ⟨k, hk, w⟩))))
  obtain ⟨t, ht, h1, h2, q, e⟩ := zb_low hz
  have m := zntz_mask hx ht e h2 h1
  have hp := hp t ht h1 h2
  have pw : ∀ t : Nat, t < 32 → 0 ≤ (2 : Int) ^ t - 1 ∧ (2 : Int) ^ t - 1 < 2147483648 ∧ (0 < t → 0 < (2 : Int) ^ t - 1) := by decide
  have pt := pw t ht
  unfold wpRD_J3_numberOfTrailingZeros
  intro v ev
  rw [m] at ev
  refine ⟨fun z => ?_, fun z => ?_⟩
  · have t0 : 0 < t := by
      by_cases h : t = 0
      · subst h; rw [ev] at z; exact absurd z (by decide)
      · omega
    have l := zlad_t t ht t0
    rw [← ev] at l pt
    unfold zlad at l
    refine ⟨fun z2 => ?_, fun z2 _ e1 _ e2 => ?_⟩
    · rw [if_pos z2] at l
      exact CRD_l4 (by omega) (by decide) (by rw [l]; exact hp)
    · rw [if_neg z2] at l
      rw [show v % 4294967296 = v by omega] at e2
      rw [w32_id (by decide)] at e1
      subst e1 e2
      exact CRD_l4 (by omega) (by decide) (by rw [show (1 : Int) + 16 = 17 from rfl, l]; exact hp)
  · have t0 : t = 0 := by
      by_cases h : t = 0
      · exact h
      · have := pt.2.2 (by omega); omega
    subst t0
    rw [ev, show zand ((2 : Int) ^ 0 - 1) 32 = 0 by decide]; exact hp
theorem CRD_ntz64 {post : Int → Prop} {x : Int} (hx : zL x) (hn : x ≠ 0) (hp : ∀ t : Nat, t < 64 → zb x t = 1 → (∀ j, j < t → zb x j = 0) → post t) : wpRD_J21_numberOfTrailingZeros post x := by
  unfold wpRD_J21_numberOfTrailingZeros
  intro y ey
  have lo : ∀ k, k < 32 → zb y k = zb x k := fun k hk => by rw [ey]; exact zb_w32 hk
  refine ⟨fun z => ?_, fun z => ?_⟩
  · have l0 : ∀ k, k < 32 → zb x k = 0 := fun k hk => by rw [← lo k hk, z, zb_zero]
    have hi : ∀ k, k < 32 → zb (w32 ((x % 18446744073709551616) / 4294967296)) k = zb x (k + 32) := fun k hk => by have := zb_hi (x := x) (k := k); rw [if_pos hk] at this; exact this
    refine CRD_ntz32 (zw_r32 _) (fun e => hn (zb_064 hx (fun k hk => ?_))) (fun t ht h1 h2 => ?_)
    · by_cases h : k < 32
      · exact l0 k h
      · have := hi (k - 32) (by omega)
        rw [e, zb_zero, show k - 32 + 32 = k by omega] at this; exact this.symm
    · rw [w32_id (by omega), show (32 : Int) + t = ((t + 32 : Nat) : Int) by omega]
      refine hp (t + 32) (by omega) (by rw [← hi t ht]; exact h1) (fun j hj => ?_)
      by_cases h : j < 32
      · exact l0 j h
      · have := hi (j - 32) (by omega)
        rw [h2 _ (by omega), show j - 32 + 32 = j by omega] at this; exact this.symm
  · refine CRD_ntz32 (by rw [ey]; exact zw_r32 _) z (fun t ht h1 h2 => ?_)
    exact hp t (by omega) (by rw [← lo t ht]; exact h1) (fun j hj => by rw [← lo j (by omega)]; exact h2 j hj)
section
variable {kd an : Nat → Nat} {al : Nat → Int → Int} {wd : Nat → Option Nat} {iu st : Nat → Int} {x y w v : Nat} {L : Int} {P Q : Int → Prop} {MC MS : Nat}
theorem CRD_recalc {post : (Nat → Int) → Prop} (e : wd x = some w) (kw : kd w = 13) (lw : (an w : Int) = L) (hL : L ≤ 100000) (hu : 0 ≤ iu x ∧ iu x ≤ L) (hz : ∀ j, iu x ≤ j → j < L → al w j = 0)
    (hp : ∀ u, (0 ≤ u ∧ u ≤ L) → (0 < u → al w (u - 1) ≠ 0) → (∀ j, u ≤ j → j < L → al w j = 0) → post (va_up iu x u)) : wpRD_J4_recalculateWordsInUse post kd an al wd iu x := by
  unfold wpRD_J4_recalculateWordsInUse
  refine ⟨by omega, fun _ e1 => ?_⟩
  subst e1
  refine wloop (fun n i => wRD_J4_recalculateWordsInUse_7 _ _ x kd an al wd n i) (fun i => (-1 ≤ i ∧ i < L) ∧ ∀ j, i < j → j < L → al w j = 0) (fun i => (i + 1).toNat) ?_ _ ⟨by omega, fun j a b => hz j (by omega) b⟩
  rintro i ⟨hi, hj⟩ n ih
  rw [wRD_J4_recalculateWordsInUse_7]
  refine ⟨fun z => ⟨by omega, fun _ e1 _ e2 => ?_⟩, fun z => kOn_of e ⟨kw, by omega, fun q => ⟨by omega, fun _ e1 => ?_⟩, fun q => ⟨by omega, fun _ e1 _ e2 => ?_⟩⟩⟩
  · subst e1 e2
    exact hp _ (by omega) (fun w => by omega) (fun j a b => hj j (by omega) b)
  · subst e1
    refine ih _ ⟨by omega, fun j a b => ?_⟩ (by omega)
    by_cases h : j = i
    · subst h; exact q
    · exact hj j (by omega) b
  · subst e1 e2
    exact hp _ (by omega) (fun _ => by rw [show i + 1 - 1 = i by omega]; exact q) (fun j a b => hj j (by omega) b)
theorem CRD_clear {post : (Nat → Int → Int) → (Nat → Int) → Prop} (e : wd x = some w) (kw : kd w = 13) (lw : (an w : Int) = L) (hL : L ≤ 100000) (B : bsOK L (al w) (iu x) P) (hp : ∀ f, bsOK L f 0 (fun _ => False) → post (va_up al w f) (va_up iu x 0)) : wpRD_J4_clear_2 post kd an al wd iu x := by
  unfold wpRD_J4_clear_2
  refine wl2 (fun n a i => wRD_J4_clear_2_0 _ x kd an wd n a i) (fun a i => ∃ f u, a = va_up al w f ∧ i = va_up iu x u ∧ (0 ≤ u ∧ u ≤ L) ∧ ∀ j, u ≤ j → j < L → f j = 0) (fun a i => (i x).toNat) ?_ al iu ⟨al w, iu x, (va_up_id rfl).symm, (va_up_id rfl).symm, B.1, B.2.2.1⟩
  rintro a i ⟨f, u, rfl, rfl, hu, hf⟩ n ih
  rw [wRD_J4_clear_2_0]
  dsimp only
  rw [va_up_self]
  refine ⟨fun z => ?_, fun z => ⟨by omega, fun _ e1 _ e2 => kOn_of e ⟨kw, by omega, fun _ e3 => ?_⟩⟩⟩
  · have : u = 0 := by omega
    subst this
    exact hp f (bsOK_0 (by omega) (fun j a b => hf j a b))
  · subst e1 e2 e3
    rw [va_up_self, va_up_up, va_up_up]
    refine ih _ _ ⟨_, _, rfl, rfl, by omega, fun j a b => ?_⟩ (by rw [va_up_self, va_up_self]; omega)
    by_cases h : j = u - 1
    · rw [h, updI_s]
    · rw [updI_n h]; exact hf j (by omega) b
theorem CRD_ens {post : (Nat → Nat) → (Nat → Nat) → (Nat → Int → Int) → (Nat → Option Nat) → (Nat → Int) → Prop} {n : Int} (e : wd x = some w) (kw : kd w = 13) (lw : (an w : Int) = L) (hL : L ≤ 100000) (hn : n ≤ L) (hp : post kd an al wd st) : wpRD_J4_ensureCapacity MC MS post kd an al wd st x n := by
  unfold wpRD_J4_ensureCapacity
  exact kOn_of e ⟨kw, by omega, fun z => ⟨Nat.zero_le _, Nat.zero_le _, hp⟩, fun z => absurd (by omega) z⟩
theorem CRD_or47 {K : (Nat → Int → Int) → Prop} {m : Int} (e : wd x = some w) (e' : wd y = some v) (ky : kd y = 10) (kw : kd w = 13) (kv : kd v = 13) (lw : (an w : Int) = L) (lv : (an v : Int) = L) (hL : L ≤ 100000) (hwv : w ≠ v) (hm : 0 ≤ m ∧ m ≤ L)
    (hp : ∀ f, (∀ j, 0 ≤ j → j < m → f j = zLor (al w j) (al v j)) → (∀ j, m ≤ j → f j = al w j) → K (va_up al w f)) : ∃ fu, wRD_J4_or_47 MC MS K x (some y) m kd an wd fu 0 al := by
  refine wl2 (fun n i a => wRD_J4_or_47 MC MS K x (some y) m kd an wd n i a) (fun i a => (0 ≤ i ∧ i ≤ m) ∧ ∃ f, a = va_up al w f ∧ (∀ j, 0 ≤ j → j < i → f j = zLor (al w j) (al v j)) ∧ ∀ j, i ≤ j → f j = al w j) (fun i a => (m - i).toNat) ?_ 0 al ⟨by omega, al w, (va_up_id rfl).symm, fun j a b => by omega, fun j _ => rfl⟩
  rintro i a ⟨hi, f, rfl, h1, h2⟩ n ih
  rw [wRD_J4_or_47]
  refine ⟨fun z => ?_, fun z => kOn_of e ⟨kw, by omega, kOn_some ⟨ky, kOn_of e' ⟨kv, by omega, fun _ e1 _ e2 => ⟨by omega, fun _ e3 => ?_⟩⟩⟩⟩⟩
  · have : i = m := by omega
    subst this
    exact hp f h1 h2
  · rw [va_up_self, va_up_ne _ _ hwv.symm] at e1
    subst e1 e2 e3
    rw [va_up_self, va_up_up]
    refine ih _ _ ⟨by omega, _, rfl, fun j a b => ?_, fun j a => ?_⟩ (by omega)
    · by_cases h : j = i
      · rw [h, updI_s, h2 i (Int.le_refl _)]
      · rw [updI_n h]; exact h1 j a (by omega)
    · rw [updI_n (by omega)]; exact h2 j (by omega)
theorem CRD_or {post : (Nat → Nat) → (Nat → Nat) → (Nat → Int → Int) → (Nat → Option Nat) → (Nat → Int) → (Nat → Int) → Prop} (e : wd x = some w) (e' : wd y = some v) (ky : kd y = 10) (kw : kd w = 13) (kv : kd v = 13) (lw : (an w : Int) = L) (lv : (an v : Int) = L) (hL : L ≤ 100000) (hxy : x ≠ y) (hwv : w ≠ v) (B : bsOK L (al w) (iu x) P) (C : bsOK L (al v) (iu y) Q)
    (hp : ∀ f u, bsOK L f u (fun q => P q ∨ Q q) → post kd an (va_up al w f) wd (va_up iu x u) st) : wpRD_J4_or MC MS post kd an al wd iu st x (some y) := by
  obtain ⟨b1, b2, b3, b4⟩ := id B
  obtain ⟨c1, c2, c3, c4⟩ := id C
  have fin : ∀ f u, (u = iu x ∨ u = iu y) → iu x ≤ u → iu y ≤ u → (∀ j, 0 ≤ j → j < L → f j = zLor (al w j) (al v j)) → bsOK L f u (fun q => P q ∨ Q q) := by
    intro f u hu hx hy hf
    refine ⟨by omega, fun z => ?_, fun j a b => ?_, bsW_or b4 c4 hf⟩
    · rw [hf _ (by omega) (by omega)]
      refine zLor_n (b4.1 _ (by omega) (by omega)) (c4.1 _ (by omega) (by omega)) ?_
      rcases hu with hu | hu
      · subst hu; exact Or.inl (b2 z)
      · subst hu; exact Or.inr (c2 z)
    · rw [hf _ (by omega) b, b3 j (by omega) b, c3 j (by omega) b]; decide
  unfold wpRD_J4_or
  refine ⟨fun z => absurd (Option.some.inj z) hxy, fun _ => kOn_some ⟨ky, ⟨Nat.zero_le _, Nat.zero_le _⟩, fun m em => ⟨fun z => ?_, fun z => ⟨0, 0, ⟨Nat.zero_le _, Nat.zero_le _⟩, ?_⟩⟩⟩⟩
  · have em2 : m = iu y := by rw [em]; split <;> omega
    subst em2
    refine CRD_or47 e e' ky kw kv lw lv hL hwv (by omega) (fun f h1 h2 => kOn_some ⟨ky, fun z1 => ⟨⟨Nat.zero_le _, Nat.zero_le _⟩, ?_⟩, fun z1 => absurd (Int.le_refl _) z1⟩)
    unfold wpRD_J4_checkInvariants
    refine ⟨Nat.zero_le _, Nat.zero_le _, ?_⟩
    have := hp f (iu x) (fin f (iu x) (Or.inl rfl) (Int.le_refl _) z (fun j a b => ?_))
    · rw [va_up_id (f := iu) rfl] at this; exact this
    · by_cases h : j < iu y
      · exact h1 j a h
      · rw [h2 j (by omega), c3 j (by omega) b, zLor_0 (b4.1 j a b)]
  · have em2 : m = iu x := by rw [em]; split <;> omega
    subst em2
    refine CRD_ens e kw lw hL (by omega) (fun _ _ e1 _ e2 => ?_)
    subst e1 e2
    have ny : va_up iu x (iu y) y = iu y := va_up_ne _ _ hxy.symm
    refine CRD_or47 e e' ky kw kv lw lv hL hwv (by omega) (fun f h1 h2 => kOn_some ⟨ky, fun z1 => absurd z1 (by rw [ny]; omega), fun z1 => ?_⟩)
    rw [va_up_self]
    refine ⟨by omega, kOn_of e (kOn_of e' ⟨kw, kv, by omega, fun _ e3 => ⟨⟨Nat.zero_le _, Nat.zero_le _⟩, ?_⟩⟩)⟩
    subst e3
    unfold wpRD_J4_checkInvariants
    refine ⟨Nat.zero_le _, Nat.zero_le _, ?_⟩
    rw [va_up_self, va_up_up, va_up_ne _ _ hwv.symm]
    refine hp _ _ (fin _ (iu y) (Or.inr rfl) (by omega) (Int.le_refl _) (fun j a b => ?_))
    by_cases h : j < iu x
    · rw [zcpy_out (Or.inl h)]; exact h1 j a h
    · rw [b3 j (by omega) b, zLor_l (c4.1 j a b)]
      by_cases h3 : j < iu y
      · rw [zcpy_in (by omega) (by omega), show iu x + (j - iu x) = j by omega]
      · rw [zcpy_out (Or.inr (by omega)), h2 j (by omega), b3 j (by omega) b, c3 j (by omega) b]
theorem CRD_an14 {K : (Nat → Int → Int) → Prop} {m : Int} (e : wd x = some w) (e' : wd y = some v) (ky : kd y = 10) (kw : kd w = 13) (kv : kd v = 13) (lw : (an w : Int) = L) (lv : (an v : Int) = L) (hL : L ≤ 100000) (hwv : w ≠ v) (hm : 0 ≤ m ∧ m ≤ L)
    (hp : ∀ f, (∀ j, 0 ≤ j → j < m → f j = zLand (al w j) (-(al v j) - 1)) → (∀ j, m ≤ j → f j = al w j) → K (va_up al w f)) : ∃ fu, wRD_J4_andNot_14 K x (some y) kd an wd fu (m - 1) al := by
  refine wl2 (fun n i a => wRD_J4_andNot_14 K x (some y) kd an wd n i a) (fun i a => (-1 ≤ i ∧ i < m) ∧ ∃ f, a = va_up al w f ∧ (∀ j, i < j → j < m → f j = zLand (al w j) (-(al v j) - 1)) ∧ (∀ j, m ≤ j → f j = al w j) ∧ ∀ j, 0 ≤ j → j ≤ i → f j = al w j) (fun i a => (i + 1).toNat) ?_ (m - 1) al ⟨by omega, al w, (va_up_id rfl).symm, fun j a b => by omega, fun j _ => rfl, fun j _ _ => rfl⟩
  rintro i a ⟨hi, f, rfl, h1, h2, h3⟩ n ih
  rw [wRD_J4_andNot_14]
  refine ⟨fun z => ?_, fun z => kOn_of e ⟨kw, by omega, kOn_some ⟨ky, kOn_of e' ⟨kv, by omega, fun _ e1 _ e2 => ⟨by omega, fun _ e3 => ?_⟩⟩⟩⟩⟩
  · exact hp f (fun j a b => h1 j (by omega) b) h2
  · rw [va_up_self, va_up_ne _ _ hwv.symm] at e1
    subst e1 e2 e3
    rw [va_up_self, va_up_up]
    refine ih _ _ ⟨by omega, _, rfl, fun j a b => ?_, fun j a => ?_, fun j a b => ?_⟩ (by omega)
    · by_cases h : j = i
      · rw [h, updI_s, h3 i (by omega) (Int.le_refl _)]
      · rw [updI_n h]; exact h1 j (by omega) b
    · rw [updI_n (by omega)]; exact h2 j a
    · rw [updI_n (by omega)]; exact h3 j a (by omega)
theorem CRD_andNot {post : (Nat → Int → Int) → (Nat → Int) → Prop} (e : wd x = some w) (e' : wd y = some v) (ky : kd y = 10) (kw : kd w = 13) (kv : kd v = 13) (lw : (an w : Int) = L) (lv : (an v : Int) = L) (hL : L ≤ 100000) (hwv : w ≠ v) (B : bsOK L (al w) (iu x) P) (C : bsOK L (al v) (iu y) Q)
    (hp : ∀ f u, bsOK L f u (fun q => P q ∧ ¬ Q q) → post (va_up al w f) (va_up iu x u)) : wpRD_J4_andNot post kd an al wd iu x (some y) := by
  obtain ⟨b1, b2, b3, b4⟩ := id B
  obtain ⟨c1, c2, c3, c4⟩ := id C
  unfold wpRD_J4_andNot
  have hm : ∃ m, m = (if iu y < iu x then iu y else iu x) ∧ (0 ≤ m ∧ m ≤ L) ∧ (m = iu x ∨ m = iu y) ∧ m ≤ iu x ∧ m ≤ iu y := ⟨_, rfl, by split <;> omega, by split <;> omega, by split <;> omega, by split <;> omega⟩
  obtain ⟨m, em, m1, m2, m3, m4⟩ := hm
  refine kOn_some ⟨ky, ?_⟩
  rw [← em]
  refine ⟨by omega, fun _ e1 => ?_⟩
  subst e1
  refine CRD_an14 e e' ky kw kv lw lv hL hwv m1 (fun f h1 h2 => ?_)
  have hf : ∀ j, 0 ≤ j → j < L → f j = zLand (al w j) (-(al v j) - 1) := by
    intro j a b
    by_cases h : j < m
    · exact h1 j a h
    · rw [h2 j (by omega)]
      rcases m2 with m2 | m2
      · rw [b3 j (by omega) b, zLan_l (c4.1 j a b)]
      · rw [c3 j (by omega) b, zLan_0 (b4.1 j a b)]
  have hW := bsW_an b4 c4 hf
  refine CRD_recalc (al := va_up al w f) e kw lw hL b1 (fun j a b => ?_) (fun u h1 h2 h3 => ?_)
  · rw [va_up_self, hf j (by omega) b, b3 j a b, zLan_l (c4.1 j (by omega) b)]
  · rw [va_up_self] at h2 h3
    unfold wpRD_J4_checkInvariants
    exact hp f u ⟨h1, h2, h3, hW⟩
theorem CRD_xo41 {K : (Nat → Int → Int) → Prop} {m : Int} (e : wd x = some w) (e' : wd y = some v) (ky : kd y = 10) (kw : kd w = 13) (kv : kd v = 13) (lw : (an w : Int) = L) (lv : (an v : Int) = L) (hL : L ≤ 100000) (hwv : w ≠ v) (hm : 0 ≤ m ∧ m ≤ L)
    (hp : ∀ f, (∀ j, 0 ≤ j → j < m → f j = zLxor (al w j) (al v j)) → (∀ j, m ≤ j → f j = al w j) → K (va_up al w f)) : ∃ fu, wRD_J4_xor_41 MC MS K x (some y) m kd an wd fu 0 al := by
  refine wl2 (fun n i a => wRD_J4_xor_41 MC MS K x (some y) m kd an wd n i a) (fun i a => (0 ≤ i ∧ i ≤ m) ∧ ∃ f, a = va_up al w f ∧ (∀ j, 0 ≤ j → j < i → f j = zLxor (al w j) (al v j)) ∧ ∀ j, i ≤ j → f j = al w j) (fun i a => (m - i).toNat) ?_ 0 al ⟨by omega, al w, (va_up_id rfl).symm, fun j a b => by omega, fun j _ => rfl⟩
  rintro i a ⟨hi, f, rfl, h1, h2⟩ n ih
  rw [wRD_J4_xor_41]
  refine ⟨fun z => ?_, fun z => kOn_of e ⟨kw, by omega, kOn_some ⟨ky, kOn_of e' ⟨kv, by omega, fun _ e1 _ e2 => ⟨by omega, fun _ e3 => ?_⟩⟩⟩⟩⟩
  · have : i = m := by omega
    subst this
    exact hp f h1 h2
  · rw [va_up_self, va_up_ne _ _ hwv.symm] at e1
    subst e1 e2 e3
    rw [va_up_self, va_up_up]
    refine ih _ _ ⟨by omega, _, rfl, fun j a b => ?_, fun j a => ?_⟩ (by omega)
    · by_cases h : j = i
      · rw [h, updI_s, h2 i (Int.le_refl _)]
      · rw [updI_n h]; exact h1 j a (by omega)
    · rw [updI_n (by omega)]; exact h2 j (by omega)
theorem CRD_xor {post : (Nat → Nat) → (Nat → Nat) → (Nat → Int → Int) → (Nat → Option Nat) → (Nat → Int) → (Nat → Int) → Prop} (e : wd x = some w) (e' : wd y = some v) (ky : kd y = 10) (kw : kd w = 13) (kv : kd v = 13) (lw : (an w : Int) = L) (lv : (an v : Int) = L) (hL : L ≤ 100000) (hxy : x ≠ y) (hwv : w ≠ v) (B : bsOK L (al w) (iu x) P) (C : bsOK L (al v) (iu y) Q)
    (hp : ∀ f u, bsOK L f u (fun q => ¬ (P q ↔ Q q)) → post kd an (va_up al w f) wd (va_up iu x u) st) : wpRD_J4_xor MC MS post kd an al wd iu st x (some y) := by
  obtain ⟨b1, b2, b3, b4⟩ := id B
  obtain ⟨c1, c2, c3, c4⟩ := id C
  have fin : ∀ f u iu', (iu x ≤ u ∧ iu y ≤ u ∧ u ≤ L) → iu' = va_up iu x u → (∀ j, 0 ≤ j → j < L → f j = zLxor (al w j) (al v j)) → wpRD_J4_recalculateWordsInUse (fun iu2 => (0 ≤ MC ∧ 0 ≤ MS) ∧ wpRD_J4_checkInvariants (0 ≤ MC ∧ 0 ≤ MS ∧ post kd an (va_up al w f) wd iu2 st)) kd an (va_up al w f) wd iu' x := by
    intro f u iu' hu ei hf
    subst ei
    refine CRD_recalc (al := va_up al w f) e kw lw hL (by rw [va_up_self]; omega) (fun j a b => ?_) (fun u2 h1 h2 h3 => ⟨⟨Nat.zero_le _, Nat.zero_le _⟩, ?_⟩)
    · rw [va_up_self] at a
      rw [va_up_self, hf j (by omega) b, b3 j (by omega) b, c3 j (by omega) b]; decide
    · rw [va_up_self] at h2 h3
      unfold wpRD_J4_checkInvariants
      refine ⟨Nat.zero_le _, Nat.zero_le _, ?_⟩
      rw [va_up_up]
      exact hp f u2 ⟨h1, h2, h3, bsW_xo b4 c4 hf⟩
  unfold wpRD_J4_xor
  refine kOn_some ⟨ky, ⟨Nat.zero_le _, Nat.zero_le _⟩, fun m em => ⟨fun z => ?_, fun z => ⟨0, 0, ⟨Nat.zero_le _, Nat.zero_le _⟩, ?_⟩⟩⟩
  · have em2 : m = iu y := by rw [em]; split <;> omega
    subst em2
    refine CRD_xo41 e e' ky kw kv lw lv hL hwv (by omega) (fun f h1 h2 => kOn_some ⟨ky, fun z1 => ⟨⟨Nat.zero_le _, Nat.zero_le _⟩, ?_⟩, fun z1 => absurd (Int.le_refl _) z1⟩)
    refine fin f (iu x) iu (by omega) (va_up_id rfl).symm (fun j a b => ?_)
    by_cases h : j < iu y
    · exact h1 j a h
    · rw [h2 j (by omega), c3 j (by omega) b, zLxor_0 (b4.1 j a b)]
  · have em2 : m = iu x := by rw [em]; split <;> omega
    subst em2
    refine CRD_ens e kw lw hL (by omega) (fun _ _ e1 _ e2 => ?_)
    subst e1 e2
    have ny : va_up iu x (iu y) y = iu y := va_up_ne _ _ hxy.symm
    refine CRD_xo41 e e' ky kw kv lw lv hL hwv (by omega) (fun f h1 h2 => kOn_some ⟨ky, fun z1 => absurd z1 (by rw [ny]; omega), fun z1 => ?_⟩)
    rw [ny]
    refine ⟨by omega, kOn_of e (kOn_of e' ⟨kw, kv, by omega, fun _ e3 => ⟨⟨Nat.zero_le _, Nat.zero_le _⟩, ?_⟩⟩)⟩
    subst e3
    rw [va_up_self, va_up_up, va_up_ne _ _ hwv.symm]
    refine fin _ (iu y) _ (by omega) rfl (fun j a b => ?_)
    by_cases h : j < iu x
    · rw [zcpy_out (Or.inl h)]; exact h1 j a h
    · rw [b3 j (by omega) b, zLxor_l (c4.1 j a b)]
      by_cases h3 : j < iu y
      · rw [zcpy_in (by omega) (by omega), show iu x + (j - iu x) = j by omega]
      · rw [zcpy_out (Or.inr (by omega)), h2 j (by omega), b3 j (by omega) b, c3 j (by omega) b]
theorem CRD_card {post : Int → Prop} (e : wd x = some w) (kw : kd w = 13) (lw : (an w : Int) = L) (hL : L ≤ 100000) (B : bsOK L (al w) (iu x) P) (hp : post (cntI P (64 * L).toNat)) : wpRD_J4_cardinality post kd an al wd iu x := by
  obtain ⟨b1, b2, b3, b4⟩ := id B
  unfold wpRD_J4_cardinality
  refine wl2 (fun n c i => wRD_J4_cardinality_4 _ x kd an al wd iu n c i) (fun c i => (0 ≤ i ∧ i ≤ iu x) ∧ c = cntI P (64 * i).toNat) (fun c i => (iu x - i).toNat) ?_ 0 0 ⟨by omega, rfl⟩
  rintro c i ⟨hi, hc⟩ n ih
  rw [wRD_J4_cardinality_4]
  refine ⟨fun z => ?_, fun z => kOn_of e ⟨kw, by omega, ?_⟩⟩
  · have : i = iu x := by omega
    subst this
    have := cntI_up (p := P) (n := (64 * iu x).toNat) (m := (64 * L).toNat) (by omega) (fun q a b => bsOK_no B (by omega) (by omega) (by omega))
    rw [hc, this]; exact hp
  · unfold wpRD_J21_bitCount
    have b := cntI_b (fun i_ : Int => zb (al w i) i_.toNat = 1) 64
    have cb := cntI_b P (64 * i).toNat
    have nx := bsW_cnt b4 hi.1 (show i < L by omega)
    refine zpop64 (P := fun r => zR (c + r) ∧ ∀ x1_11 : Int, x1_11 = c + r → (zR (i + 1) ∧ ∀ x2_12 : Int, x2_12 = i + 1 → wRD_J4_cardinality_4 (fun x1_14 => post x1_14) x kd an al wd iu n x1_11 x2_12)) ⟨by omega, fun _ e1 => ⟨by omega, fun _ e2 => ?_⟩⟩
    subst e1 e2
    exact ih _ _ ⟨by omega, by rw [nx, hc]⟩ (by omega)
theorem CRD_get {A0 A1 : Prop} {q : Int} (e : wd x = some w) (kw : kd w = 13) (lw : (an w : Int) = L) (hL : L ≤ 100000) (B : bsOK L (al w) (iu x) P) (h0 : 0 ≤ q) (h1 : q < 64 * L) {post : Int → Prop} (hp1 : P q → post 1) (hp0 : ¬ P q → post 0) : wpRD_J4_get post kd an al wd iu x q := by
  unfold wpRD_J4_get wpRD_J4_checkInvariants wpRD_J4_wordIndex
  refine ⟨fun _ => ⟨fun z => hp0 (bsOK_no B (by omega) h1 h0), fun z => kOn_of e ⟨kw, by omega, ?_⟩⟩, fun z => absurd h0 z⟩
  have hw := B.2.2.2.1 (q / 64) (by omega) (by omega)
  have hb := zL_bit0 hw h0 (by omega) rfl
  have hq := B.2.2.2.2 q h0 h1
  exact ⟨fun z => hp0 (fun p => hb.mp z (hq.mpr p)), fun z => hp1 (hq.mp (Classical.byContradiction (fun n => z (hb.mpr n))))⟩
theorem CRD_nsb {post : Int → Prop} {q : Int} (e : wd x = some w) (kw : kd w = 13) (lw : (an w : Int) = L) (hL : L ≤ 100000) (B : bsOK L (al w) (iu x) P) (h0 : 0 ≤ q) (hq : q < 2147483648)
    (hp1 : ∀ r, q ≤ r → r < 64 * L → P r → (∀ j, q ≤ j → j < r → ¬ P j) → post r) (hp0 : (∀ j, q ≤ j → j < 64 * L → ¬ P j) → post (-1)) : wpRD_J4_nextSetBit post kd an al wd iu x q := by
  obtain ⟨b1, b2, b3, b4⟩ := id B
  unfold wpRD_J4_nextSetBit wpRD_J4_checkInvariants wpRD_J4_wordIndex
  refine ⟨fun _ => ⟨fun z => kOn_of e ⟨kw, by omega, fun s es => ?_⟩, fun z => hp0 (fun j a b => bsOK_no B (by omega) b (by omega))⟩, fun z => absurd h0 z⟩
  have sh := zLshl_m h0 hq
  refine wl2 (fun n i s => wRD_J4_nextSetBit_63 _ _ x kd an al wd iu n i s) (fun i s => (q / 64 ≤ i ∧ i < iu x) ∧ zL s ∧ (∀ k : Nat, k < 64 → (zb s k = 1 ↔ zb (al w i) k = 1 ∧ q ≤ 64 * i + k)) ∧ ∀ j, q ≤ j → j < 64 * i → ¬ P j) (fun i s => (iu x - i).toNat) ?_ _ _ ⟨by omega, by rw [es]; exact zr_and64 _ _, fun k hk => ?_, fun j a b => by omega⟩
  · rintro i s ⟨hi, hs, hk, hj⟩ n ih
    rw [wRD_J4_nextSetBit_63]
    refine ⟨fun z => ⟨by omega, fun i2 e2 => ⟨fun z2 => ?_, fun z2 => kOn_of e ⟨kw, by omega, fun s2 es2 => ?_⟩⟩⟩, fun z => ?_⟩
    all_goals try
      have no : s = 0 → ∀ j, q ≤ j → j < 64 * (i + 1) → ¬ P j := by
        intro z j a b p
        by_cases h : j < 64 * i
        · exact hj j a h p
        · have h1 := (b4.2 j (by omega) (by omega)).mpr p
          rw [show j / 64 = i by omega] at h1
          have h2 := (hk (j % 64).toNat (by omega)).mpr ⟨h1, by omega⟩
          rw [z, zb_zero] at h2
          exact absurd h2 (by decide)
    · refine hp0 (fun j a b p => ?_)
      by_cases h : j < 64 * (i + 1)
      · exact no z j a h p
      · exact bsOK_no B (by omega) b (by omega) p
    · subst e2 es2
      refine ih _ _ ⟨by omega, b4.1 _ (by omega) (by omega), fun k hk => ⟨fun a => ⟨a, by omega⟩, fun a => a.1⟩, no z⟩ (by omega)
    · refine CRD_ntz64 hs z (fun t ht h1 h2 => ⟨by omega, ?_⟩)
      have w1 := (hk t ht).mp h1
      refine hp1 _ (by omega) (by omega) ?_ (fun j a b p => ?_)
      · have := (b4.2 (i * 64 + t) (by omega) (by omega)).mp
        rw [show (i * 64 + (t : Int)) / 64 = i by omega, show ((i * 64 + (t : Int)) % 64).toNat = t by omega] at this
        exact this w1.1
      · by_cases h : j < 64 * i
        · exact hj j a h p
        · have h3 := (b4.2 j (by omega) (by omega)).mpr p
          rw [show j / 64 = i by omega] at h3
          have h4 := (hk (j % 64).toNat (by omega)).mpr ⟨h3, by omega⟩
          rw [h2 _ (by omega)] at h4
          exact absurd h4 (by decide)
  · rw [es, zb_and64 (b4.1 _ (by omega) (by omega)) sh.1 hk, sh.2 k hk]
    constructor
    · exact fun a => ⟨a.1, by omega⟩
    · exact fun a => ⟨a.1, by omega⟩
theorem CRD_setb {post : (Nat → Nat) → (Nat → Nat) → (Nat → Int → Int) → (Nat → Option Nat) → (Nat → Int) → (Nat → Int) → Prop} {q b : Int} (e : wd x = some w) (kw : kd w = 13) (lw : (an w : Int) = L) (hL : L ≤ 100000) (B : bsOK L (al w) (iu x) P) (h0 : 0 ≤ q) (h1 : q < 64 * L)
    (hp : ∀ f u, bsOK L f u (fun r => if r = q then b ≠ 0 else P r) → post kd an (va_up al w f) wd (va_up iu x u) st) : wpRD_J4_set MC MS post kd an al wd iu st x q b := by
  obtain ⟨b1, b2, b3, b4⟩ := id B
  unfold wpRD_J4_set
  refine ⟨fun z => ⟨⟨Nat.zero_le _, Nat.zero_le _⟩, ?_⟩, fun z => ⟨0, 0, ⟨Nat.zero_le _, Nat.zero_le _⟩, ?_⟩⟩
  · unfold wpRD_J4_clear wpRD_J4_wordIndex
    refine ⟨fun _ => ⟨fun z1 => kOn_of e ⟨kw, by omega, fun _ e1 _ e2 => ?_⟩, fun z1 => ⟨Nat.zero_le _, Nat.zero_le _, ?_⟩⟩, fun y => absurd h0 y⟩
    · subst e1 e2
      have hW := bsW_clr b4 h0 h1 hL
      refine CRD_recalc (al := va_up al w _) e kw lw hL b1 (fun j c d => ?_) (fun u u1 u2 u3 => ?_)
      · rw [va_up_self, updI_n (by omega)]; exact b3 j c d
      · rw [va_up_self] at u2 u3
        unfold wpRD_J4_checkInvariants
        refine ⟨Nat.zero_le _, Nat.zero_le _, hp _ u ⟨u1, u2, u3, bsW_c hW (fun r c d => ?_)⟩⟩
        by_cases hr : r = q
        · simp [hr, z]
        · simp [hr]
    · have := hp (al w) (iu x) (bsOK_c B (fun r c d => ?_))
      · rw [va_up_id (f := al) rfl, va_up_id (f := iu) rfl] at this; exact this
      · by_cases hr : r = q
        · have : ¬ P q := bsOK_no B (by omega) h1 h0
          simp [hr, z, this]
        · simp [hr]
  · have hW := bsW_set b4 h0 h1 hL
    have sh := zLshl_1 h0 (by omega)
    have nz : zLor (al w (q / 64)) (zLshl 1 q) ≠ 0 := zLor_n (b4.1 _ (by omega) (by omega)) sh.1 (Or.inr (fun e0 => by
      have := (sh.2 (q % 64).toNat (by omega)).mpr (by omega)
      rw [e0, zb_zero] at this; exact absurd this (by decide)))
    have fin : ∀ u, (iu x ≤ u ∧ q / 64 < u ∧ (u = iu x ∨ u = q / 64 + 1)) → bsOK L (updI (al w) (q / 64) (zLor (al w (q / 64)) (zLshl 1 q))) u (fun r => if r = q then b ≠ 0 else P r) := by
      intro u hu
      refine ⟨by omega, fun _ => ?_, fun j c d => ?_, bsW_c hW (fun r c d => ?_)⟩
      · by_cases hj : u - 1 = q / 64
        · rw [hj, updI_s]; exact nz
        · rw [updI_n hj]
          have : u = iu x := by omega
          subst this
          exact b2 (by omega)
      · rw [updI_n (by omega)]; exact b3 j (by omega) d
      · by_cases hr : r = q
        · simp [hr, z]
        · simp [hr]
    unfold wpRD_J4_set_2 wpRD_J4_wordIndex
    refine ⟨fun _ => ⟨⟨Nat.zero_le _, Nat.zero_le _⟩, 0, 0, ⟨Nat.zero_le _, Nat.zero_le _⟩, ?_⟩, fun y => absurd h0 y⟩
    unfold wpRD_J4_expandTo
    refine ⟨by omega, fun _ e1 => ⟨fun z1 => ⟨Nat.zero_le _, Nat.zero_le _, fun _ => kOn_of e ⟨kw, by omega, fun _ e2 _ e3 => ⟨⟨Nat.zero_le _, Nat.zero_le _⟩, ?_⟩⟩⟩, fun z1 => ⟨0, 0, ⟨Nat.zero_le _, Nat.zero_le _⟩, CRD_ens e kw lw hL (by omega) (fun _ _ e4 => ⟨Nat.zero_le _, Nat.zero_le _, fun _ => kOn_of e ⟨kw, by omega, fun _ e2 _ e3 => ⟨⟨Nat.zero_le _, Nat.zero_le _⟩, ?_⟩⟩⟩)⟩⟩⟩
    · subst e1 e2 e3
      unfold wpRD_J4_checkInvariants
      have := hp _ _ (fin (iu x) (by omega))
      rw [va_up_id (f := iu) rfl] at this
      exact ⟨Nat.zero_le _, Nat.zero_le _, fun _ => ⟨Nat.zero_le _, Nat.zero_le _, this⟩⟩
    · subst e1 e2 e3 e4
      unfold wpRD_J4_checkInvariants
      exact ⟨Nat.zero_le _, Nat.zero_le _, fun _ => ⟨Nat.zero_le _, Nat.zero_le _, hp _ _ (fin (q / 64 + 1) (by omega))⟩⟩
end
