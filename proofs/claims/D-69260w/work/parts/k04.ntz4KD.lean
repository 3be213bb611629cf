/-! NTZ: lowest bit and bit count in room KD (printed off a template) -/
theorem CKD_l2 {post : Int → Prop} {a n : Int} (ha : 0 ≤ a ∧ a < 2147483648) (hn : 0 ≤ n ∧ n ≤ 40) (hp : post (zl2_ a n)) : wKD_J3_numberOfTrailingZeros_62 post a n := by
  unfold wKD_J3_numberOfTrailingZeros_62
  unfold zl2_ at hp
  refine ⟨fun z => ?_, fun z _ e1 _ e2 => ?_⟩
  · rw [if_pos z] at hp
    rw [show a % 4294967296 = a by omega, w32_id (by omega)]; exact hp
  · rw [if_neg z] at hp
    subst e1 e2
    rw [show a % 4294967296 = a by omega, show a / 4 % 4294967296 = a / 4 by omega, w32_id (x := n + 2) (by omega), w32_id (by omega)]; exact hp
theorem CKD_l4 {post : Int → Prop} {a n : Int} (ha : 0 ≤ a ∧ a < 2147483648) (hn : 0 ≤ n ∧ n ≤ 20) (hp : post (zl8_ a n)) : wKD_J3_numberOfTrailingZeros_34 post a n := by
  unfold wKD_J3_numberOfTrailingZeros_34
  unfold zl8_ zl4_ at hp
  refine ⟨fun z => ⟨fun z2 => ?_, fun z2 _ e1 _ e2 => ?_⟩, fun z _ e1 _ e2 => ⟨fun z2 => ?_, fun z2 _ e3 _ e4 => ?_⟩⟩
  · rw [if_pos z, if_pos z2] at hp
    exact CKD_l2 ha (by omega) hp
  · rw [if_pos z, if_neg z2] at hp
    subst e1 e2
    rw [show a % 4294967296 = a by omega, w32_id (by omega)]
    exact CKD_l2 (by omega) (by omega) hp
  · rw [show a % 4294967296 = a by omega] at e2
    subst e1 e2
    rw [if_neg z, if_pos z2] at hp
    rw [w32_id (by omega)]
    exact CKD_l2 (by omega) (by omega) hp
  · rw [show a % 4294967296 = a by omega] at e2
    subst e1 e2
    rw [if_neg z, if_neg z2] at hp
    rw [show a / 256 % 4294967296 = a / 256 by omega] at e4
    rw [w32_id (x := n + 8) (by omega), w32_id (by omega)] at e3
    subst e3 e4
    exact CKD_l2 (by omega) (by omega) hp
theorem CKD_ntz32 {post : Int → Prop} {x : Int} (hx : zR x) (hn : x ≠ 0) (hp : ∀ t : Nat, t < 32 → zb x t = 1 → (∀ j, j < t → zb x j = 0) → post t) : wpKD_J3_numberOfTrailingZeros post x := by
  have hz : ∃ k, k < 32 ∧ zb x k = 1 := Classical.byContradiction (fun q => hn (zb_032 hx (fun k hk => zb_n0 (fun w => q ⟨k, hk, w⟩))))
  obtain ⟨t, ht, h1, h2, q, e⟩ := zb_low hz
  have m := zntz_mask hx ht e h2 h1
  have hp := hp t ht h1 h2
  have pw : ∀ t : Nat, t < 32 → 0 ≤ (2 : Int) ^ t - 1 ∧ (2 : Int) ^ t - 1 < 2147483648 ∧ (0 < t → 0 < (2 : Int) ^ t - 1) := by decide
  have pt := pw t ht
  unfold wpKD_J3_numberOfTrailingZeros
  intro v ev
  rw [m] at ev
  refine ⟨fun z => ?_, fun z => ?_⟩
  · have t0 : 0 < t := by
      by_cases h : t = 0
      · subst h; rw [ev] at z; exact absurd z (by decide)
      · omega
    have l := zlad_t t ht t0
    rw [← ev] at l pt
    unfold zlad at l
    refine ⟨fun z2 => ?_, fun z2 _ e1 _ e2 => ?_⟩
    · rw [if_pos z2] at l
      exact CKD_l4 (by omega) (by decide) (by rw [l]; exact hp)
    · rw [if_neg z2] at l
      rw [show v % 4294967296 = v by omega] at e2
      rw [w32_id (by decide)] at e1
      subst e1 e2
      exact CKD_l4 (by omega) (by decide) (by rw [show (1 : Int) + 16 = 17 from rfl, l]; exact hp)
  · have t0 : t = 0 := by
      by_cases h : t = 0
      · exact h
      · have := pt.2.2 (by omega); omega
    subst t0
    rw [ev, show zand ((2 : Int) ^ 0 - 1) 32 = 0 by decide]; exact hp
theorem CKD_ntz64 {post : Int → Prop} {x : Int} (hx : zL x) (hn : x ≠ 0) (hp : ∀ t : Nat, t < 64 → zb x t = 1 → (∀ j, j < t → zb x j = 0) → post t) : wpKD_J21_numberOfTrailingZeros post x := by
  unfold wpKD_J21_numberOfTrailingZeros
  intro y ey
  have lo : ∀ k, k < 32 → zb y k = zb x k := fun k hk => by rw [ey]; exact zb_w32 hk
  refine ⟨fun z => ?_, fun z => ?_⟩
  · have l0 : ∀ k, k < 32 → zb x k = 0 := fun k hk => by rw [← lo k hk, z, zb_zero]
    have hi : ∀ k, k < 32 → zb (w32 ((x % 18446744073709551616) / 4294967296)) k = zb x (k + 32) := fun k hk => by have := zb_hi (x := x) (k := k); rw [if_pos hk] at this; exact this
    refine CKD_ntz32 (zw_r32 _) (fun e => hn (zb_064 hx (fun k hk => ?_))) (fun t ht h1 h2 => ?_)
    · by_cases h : k < 32
      · exact l0 k h
      · have := hi (k - 32) (by omega)
        rw [e, zb_zero, show k - 32 + 32 = k by omega] at this; exact this.symm
    · rw [w32_id (by omega), show (32 : Int) + t = ((t + 32 : Nat) : Int) by omega]
      refine hp (t + 32) (by omega) (by rw [← hi t ht]; exact h1) (fun j hj => ?_)
      by_cases h : j < 32
      · exact l0 j h
      · have := hi (j - 32) (by omega)
        rw [h2 _ (by omega), show j - 32 + 32 = j by omega] at this; exact this.symm
  · refine CKD_ntz32 (by rw [ey]; exact zw_r32 _) z (fun t ht h1 h2 => ?_)
    exact hp t (by omega) (by rw [← lo t ht]; exact h1) (fun j hj => by rw [← lo j (by omega)]; exact h2 j hj)
