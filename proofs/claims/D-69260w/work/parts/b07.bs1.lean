/-! BS1: a BitSet's words, plain -/
theorem cntI_add {p : Int → Prop} (a : Nat) : ∀ b : Nat, cntI p (a + b) = cntI p a + cntI (fun i => p (a + i)) b
  | 0 => by show cntI p a = cntI p a + 0; omega
  | b + 1 => by
    rw [← Nat.add_assoc, cntI, cntI, cntI_add a b, show ((a + b : Nat) : Int) = (a : Int) + b by omega]; omega
theorem cntI_0 {p : Int → Prop} : ∀ {n : Nat}, (∀ i : Int, 0 ≤ i → i < n → ¬ p i) → cntI p n = 0
  | 0, _ => rfl
  | n + 1, h => by rw [cntI, cntI_0 (n := n) (fun i a b => h i a (by omega)), pif_f (h n (by omega) (by omega))]; rfl
theorem cntI_up {p : Int → Prop} {n m : Nat} (hnm : n ≤ m) (h : ∀ i : Int, n ≤ i → i < m → ¬ p i) : cntI p n = cntI p m := by
  obtain ⟨d, rfl⟩ : ∃ d, m = n + d := ⟨m - n, by omega⟩
  have z : cntI (fun i => p (n + i)) d = 0 := cntI_0 (fun i a b => h _ (by omega) (by omega))
  rw [cntI_add, z]; omega
/-- words and what they hold -/
def bsW (L : Int) (w : Int → Int) (P : Int → Prop) : Prop := (∀ j, 0 ≤ j → j < L → zL (w j)) ∧ ∀ q, 0 ≤ q → q < 64 * L → (zb (w (q / 64)) (q % 64).toNat = 1 ↔ P q)
def bsOK (L : Int) (w : Int → Int) (u : Int) (P : Int → Prop) : Prop := (0 ≤ u ∧ u ≤ L) ∧ (0 < u → w (u - 1) ≠ 0) ∧ (∀ j, u ≤ j → j < L → w j = 0) ∧ bsW L w P
theorem bsW_c {L : Int} {w : Int → Int} {P Q : Int → Prop} (h : bsW L w P) (e : ∀ q, 0 ≤ q → q < 64 * L → (P q ↔ Q q)) : bsW L w Q := ⟨h.1, fun q a b => (h.2 q a b).trans (e q a b)⟩
theorem bsOK_c {L u : Int} {w : Int → Int} {P Q : Int → Prop} (h : bsOK L w u P) (e : ∀ q, 0 ≤ q → q < 64 * L → (P q ↔ Q q)) : bsOK L w u Q := ⟨h.1, h.2.1, h.2.2.1, bsW_c h.2.2.2 e⟩
theorem bsOK_no {L u : Int} {w : Int → Int} {P : Int → Prop} (h : bsOK L w u P) {q : Int} (a : 64 * u ≤ q) (b : q < 64 * L) (h0 : 0 ≤ q) : ¬ P q := by
  intro p
  have := (h.2.2.2.2 q h0 b).mpr p
  rw [h.2.2.1 (q / 64) (by omega) (by omega), zb_zero] at this
  exact absurd this (by decide)
theorem bsW_0 {L : Int} {w : Int → Int} (h : ∀ j, 0 ≤ j → j < L → w j = 0) : bsW L w (fun _ => False) :=
  ⟨fun j a b => by rw [h j a b]; decide, fun q a b => by rw [h (q / 64) (by omega) (by omega), zb_zero]; exact ⟨fun z => absurd z (by decide), fun z => z.elim⟩⟩
theorem bsOK_0 {L : Int} {w : Int → Int} (hL : 0 ≤ L) (h : ∀ j, 0 ≤ j → j < L → w j = 0) : bsOK L w 0 (fun _ => False) := ⟨⟨by omega, hL⟩, fun z => by omega, fun j a b => h j a b, bsW_0 h⟩
theorem bsW_or {L : Int} {f a b : Int → Int} {P Q : Int → Prop} (ha : bsW L a P) (hb : bsW L b Q) (hf : ∀ j, 0 ≤ j → j < L → f j = zLor (a j) (b j)) : bsW L f (fun q => P q ∨ Q q) := by
  refine ⟨fun j x y => by rw [hf j x y]; exact zr_or64 _ _, fun q x y => ?_⟩
  have x' : 0 ≤ q / 64 := by omega
  have y' : q / 64 < L := by omega
  rw [hf _ x' y', zb_or64 (ha.1 _ x' y') (hb.1 _ x' y') (by omega), ha.2 q x y, hb.2 q x y]
theorem bsW_an {L : Int} {f a b : Int → Int} {P Q : Int → Prop} (ha : bsW L a P) (hb : bsW L b Q) (hf : ∀ j, 0 ≤ j → j < L → f j = zLand (a j) (-(b j) - 1)) : bsW L f (fun q => P q ∧ ¬ Q q) := by
  refine ⟨fun j x y => by rw [hf j x y]; exact zr_and64 _ _, fun q x y => ?_⟩
  have x' : 0 ≤ q / 64 := by omega
  have y' : q / 64 < L := by omega
  have hr := hb.1 _ x' y'
  rw [hf _ x' y', zb_and64 (ha.1 _ x' y') (by omega) (by omega), zb_not, ha.2 q x y, hb.2 q x y]
theorem bsW_xo {L : Int} {f a b : Int → Int} {P Q : Int → Prop} (ha : bsW L a P) (hb : bsW L b Q) (hf : ∀ j, 0 ≤ j → j < L → f j = zLxor (a j) (b j)) : bsW L f (fun q => ¬ (P q ↔ Q q)) := by
  refine ⟨fun j x y => by rw [hf j x y]; exact zr_xor64 _ _, fun q x y => ?_⟩
  have x' : 0 ≤ q / 64 := by omega
  have y' : q / 64 < L := by omega
  rw [hf _ x' y', zb_xor64 (ha.1 _ x' y') (hb.1 _ x' y') (by omega), ha.2 q x y, hb.2 q x y]
theorem zLor_0 {x : Int} (hx : zL x) : zLor x 0 = x := zb_ext64 (zr_or64 _ _) hx (fun k hk => by rw [zb_or64 hx (by decide) hk, zb_zero]; simp)
theorem zLor_l {x : Int} (hx : zL x) : zLor 0 x = x := zb_ext64 (zr_or64 _ _) hx (fun k hk => by rw [zb_or64 (by decide) hx hk, zb_zero]; simp)
theorem zLxor_0 {x : Int} (hx : zL x) : zLxor x 0 = x := zb_ext64 (zr_xor64 _ _) hx (fun k hk => by rw [zb_xor64 hx (by decide) hk, zb_zero]; simp)
theorem zLxor_l {x : Int} (hx : zL x) : zLxor 0 x = x := zb_ext64 (zr_xor64 _ _) hx (fun k hk => by rw [zb_xor64 (by decide) hx hk, zb_zero]; simp)
theorem zLan_l {x : Int} (hx : zL x) : zLand 0 (-x - 1) = 0 := zb_ext64 (zr_and64 _ _) (by decide) (fun k hk => by rw [zb_and64 (by decide) (by omega) hk, zb_zero]; simp)
theorem zLan_0 {x : Int} (hx : zL x) : zLand x (-0 - 1) = x := zb_ext64 (zr_and64 _ _) hx (fun k hk => by rw [zb_and64 hx (by decide) hk, zb_not, zb_zero]; simp)
theorem zLor_n {x y : Int} (hx : zL x) (hy : zL y) (h : x ≠ 0 ∨ y ≠ 0) : zLor x y ≠ 0 := by
  intro e
  have z : ∀ k, k < 64 → ¬ zb x k = 1 ∧ ¬ zb y k = 1 := by
    intro k hk
    have := zb_or64 hx hy hk
    rw [e, zb_zero] at this
    constructor
    · exact fun q => absurd (this.mpr (Or.inl q)) (by decide)
    · exact fun q => absurd (this.mpr (Or.inr q)) (by decide)
  rcases h with h | h
  · exact h (zb_064 hx (fun k hk => zb_n0 (z k hk).1))
  · exact h (zb_064 hy (fun k hk => zb_n0 (z k hk).2))
/-- 1L << y -/
theorem zLshl_1 {y : Int} (h0 : 0 ≤ y) (h1 : y < 2147483648) : zL (zLshl 1 y) ∧ ∀ k, k < 64 → (zb (zLshl 1 y) k = 1 ↔ (k : Int) = y % 64) := by
  have key : ∀ m : Nat, m < 64 → ∀ k : Nat, k < 64 → (zb ((1 : Int64) <<< (Int64.ofNat m)).toInt k = 1 ↔ k = m) := by decide +kernel
  have e : ((Int32.ofInt y).toInt64 &&& 63) = Int64.ofNat (y % 64).toNat := by
    have e1 : (Int32.ofInt y).toInt = y := z_x rfl ⟨by omega, h1⟩
    have e2 : (Int32.ofInt y).toInt64 = Int64.ofInt y := zL_m (z_i2l e1)
    rw [e2]
    apply Int64.toInt_inj.mp
    have h3 := zand_n64 (x := y) (m := 63) (by decide)
    have h4 : zLand y ((63 : Nat) : Int) = (Int64.ofInt y &&& 63).toInt := rfl
    rw [← h4, h3]
    have h5 : ∀ x : Nat, x &&& 63 = x % 64 := fun x => Nat.and_two_pow_sub_one_eq_mod x 6
    rw [h5, show (y % 18446744073709551616).toNat = y.toNat by omega]
    have h6 : ∀ m : Nat, m < 64 → (Int64.ofNat m).toInt = m := by decide +kernel
    rw [h6 _ (by omega)]; omega
  have e3 : zLshl 1 y = ((1 : Int64) <<< (Int64.ofNat (y % 64).toNat)).toInt := by
    unfold zLshl
    rw [e]; rfl
  refine ⟨by rw [e3]; exact zL_t _, fun k hk => ?_⟩
  rw [e3, key _ (by omega) k hk]; omega
theorem zLshl_m {y : Int} (h0 : 0 ≤ y) (h1 : y < 2147483648) : zL (zLshl (-1) y) ∧ ∀ k, k < 64 → (zb (zLshl (-1) y) k = 1 ↔ y % 64 ≤ k) := by
  have key : ∀ m : Nat, m < 64 → ∀ k : Nat, k < 64 → (zb ((-1 : Int64) <<< (Int64.ofNat m)).toInt k = 1 ↔ m ≤ k) := by decide +kernel
  have e : ((Int32.ofInt y).toInt64 &&& 63) = Int64.ofNat (y % 64).toNat := by
    have e1 : (Int32.ofInt y).toInt = y := z_x rfl ⟨by omega, h1⟩
    have e2 : (Int32.ofInt y).toInt64 = Int64.ofInt y := zL_m (z_i2l e1)
    rw [e2]
    apply Int64.toInt_inj.mp
    have h3 := zand_n64 (x := y) (m := 63) (by decide)
    have h4 : zLand y ((63 : Nat) : Int) = (Int64.ofInt y &&& 63).toInt := rfl
    rw [← h4, h3]
    have h5 : ∀ x : Nat, x &&& 63 = x % 64 := fun x => Nat.and_two_pow_sub_one_eq_mod x 6
    rw [h5, show (y % 18446744073709551616).toNat = y.toNat by omega]
    have h6 : ∀ m : Nat, m < 64 → (Int64.ofNat m).toInt = m := by decide +kernel
    rw [h6 _ (by omega)]; omega
  have e3 : zLshl (-1) y = ((-1 : Int64) <<< (Int64.ofNat (y % 64).toNat)).toInt := by
    unfold zLshl
    rw [e]; rfl
  refine ⟨by rw [e3]; exact zL_t _, fun k hk => ?_⟩
  rw [e3, key _ (by omega) k hk]; omega
/-- one bit set, one bit taken away -/
theorem bsW_set {L : Int} {a : Int → Int} {P : Int → Prop} {q : Int} (ha : bsW L a P) (h0 : 0 ≤ q) (h1 : q < 64 * L) (hL : L ≤ 100000) : bsW L (updI a (q / 64) (zLor (a (q / 64)) (zLshl 1 q))) (fun r => P r ∨ r = q) := by
  have sh := zLshl_1 h0 (by omega)
  refine ⟨fun j x y => ?_, fun r x y => ?_⟩
  · by_cases hj : j = q / 64
    · rw [hj, updI_s]; exact zr_or64 _ _
    · rw [updI_n hj]; exact ha.1 j x y
  · by_cases hj : r / 64 = q / 64
    · rw [hj, updI_s, zb_or64 (ha.1 _ (by omega) (by omega)) sh.1 (by omega), sh.2 _ (by omega), ← hj, ha.2 r x y]
      constructor
      · rintro (z | z)
        · exact Or.inl z
        · exact Or.inr (by omega)
      · rintro (z | z)
        · exact Or.inl z
        · exact Or.inr (by omega)
    · rw [updI_n hj, ha.2 r x y]
      constructor
      · exact Or.inl
      · rintro (z | z)
        · exact z
        · omega
theorem bsW_clr {L : Int} {a : Int → Int} {P : Int → Prop} {q : Int} (ha : bsW L a P) (h0 : 0 ≤ q) (h1 : q < 64 * L) (hL : L ≤ 100000) : bsW L (updI a (q / 64) (zLand (a (q / 64)) (-(zLshl 1 q) - 1))) (fun r => P r ∧ r ≠ q) := by
  have sh := zLshl_1 h0 (by omega)
  have s1 := sh.1
  refine ⟨fun j x y => ?_, fun r x y => ?_⟩
  · by_cases hj : j = q / 64
    · rw [hj, updI_s]; exact zr_and64 _ _
    · rw [updI_n hj]; exact ha.1 j x y
  · by_cases hj : r / 64 = q / 64
    · rw [hj, updI_s, zb_and64 (ha.1 _ (by omega) (by omega)) (by omega) (by omega), zb_not, sh.2 _ (by omega), ← hj, ha.2 r x y]
      constructor
      · exact fun z => ⟨z.1, fun e => z.2 (by omega)⟩
      · exact fun z => ⟨z.1, fun e => z.2 (by omega)⟩
    · rw [updI_n hj, ha.2 r x y]
      constructor
      · exact fun z => ⟨z, by omega⟩
      · exact fun z => z.1
theorem zL_bit0 {x y q : Int} (hx : zL x) (h0 : 0 ≤ q) (h1 : q < 2147483648) (e : y = zLshl 1 q) : zLand x y = 0 ↔ ¬ zb x (q % 64).toNat = 1 := by
  subst e
  have sh := zLshl_1 h0 h1
  constructor
  · intro z w
    have := (zb_and64 hx sh.1 (k := (q % 64).toNat) (by omega)).mpr ⟨w, (sh.2 _ (by omega)).mpr (by omega)⟩
    rw [z, zb_zero] at this
    exact absurd this (by decide)
  · intro z
    refine zb_064 (zr_and64 _ _) (fun k hk => zb_n0 (fun w => ?_))
    have := (zb_and64 hx sh.1 hk).mp w
    have e := (sh.2 k hk).mp this.2
    exact z (by rw [show (q % 64).toNat = k by omega]; exact this.1)
/-- ones by words -/
theorem bsW_cnt {L : Int} {a : Int → Int} {P : Int → Prop} (ha : bsW L a P) {j : Int} (h0 : 0 ≤ j) (h1 : j < L) : cntI P (64 * (j + 1)).toNat = cntI P (64 * j).toNat + cntI (fun i => zb (a j) i.toNat = 1) 64 := by
  rw [show (64 * (j + 1)).toNat = (64 * j).toNat + 64 by omega, cntI_add]
  congr 1
  refine cntI_c (fun i x y => ?_)
  have := ha.2 ((64 * j).toNat + i) (by omega) (by omega)
  rw [show (((64 * j).toNat : Int) + i) / 64 = j by omega, show ((((64 * j).toNat : Int) + i) % 64).toNat = i.toNat by omega] at this
  exact this.symm
/-- zeros at the end of 64 bits -/
theorem zb_hi {x : Int} {k : Nat} : zb (w32 ((x % 18446744073709551616) / 4294967296)) k = if k < 32 then zb x (k + 32) else zb (w32 ((x % 18446744073709551616) / 4294967296)) k := by
  by_cases hk : k < 32
  · rw [if_pos hk, zb_w32 hk]
    have e := zb_m (x := x) (k := k + 32) (w := 64) (by omega)
    rw [show (2 : Int) ^ 64 = 18446744073709551616 from rfl] at e
    rw [← e]
    unfold zb
    rw [Int.pow_add, show (2 : Int) ^ 32 = 4294967296 from rfl, Int.mul_comm, ← Int.ediv_ediv_of_nonneg (by decide)]
  · rw [if_neg hk]
