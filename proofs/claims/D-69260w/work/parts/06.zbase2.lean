/-! ZBASE 2: longs -/
set_option maxRecDepth 100000
def zLand (x y : Int) : Int := (Int64.ofInt x &&& Int64.ofInt y).toInt
def zLor (x y : Int) : Int := (Int64.ofInt x ||| Int64.ofInt y).toInt
def zLxor (x y : Int) : Int := (Int64.ofInt x ^^^ Int64.ofInt y).toInt
def zLshl (x y : Int) : Int := (Int64.ofInt x <<< ((Int32.ofInt y).toInt64 &&& 63)).toInt
def zLshr (x y : Int) : Int := (Int64.ofInt x >>> ((Int32.ofInt y).toInt64 &&& 63)).toInt
def zLushr (x y : Int) : Int := ((Int64.ofInt x).toUInt64 >>> ((Int32.ofInt y).toInt64.toUInt64 &&& Int64.toUInt64 63)).toInt64.toInt
theorem sL_l : ∀ n, n < 64 → (((nI n).toInt64 &&& 63).toBitVec.smod 64).toNat = n := by decide +kernel
theorem sL_u : ∀ n, n < 64 → (((nI n).toInt64.toUInt64 &&& Int64.toUInt64 63).toBitVec % 64).toNat = n := by decide +kernel
section ZL
variable {a b : Int64} {m : Int32} {x y c : Int} {k : Nat}
theorem zL_m (e : a.toInt = x) : a = Int64.ofInt x := by subst e; exact (Int64.ofInt_toInt a).symm
theorem zL_x (e : a = Int64.ofInt x) (h : zL x) : a.toInt = x := by rw [e, zL_of, w64_id h]
theorem zL_add (ea : a = Int64.ofInt x) (eb : b = Int64.ofInt y) : a + b = Int64.ofInt (x + y) := by subst ea eb; exact (Int64.ofInt_add x y).symm
theorem zL_sub (ea : a = Int64.ofInt x) (eb : b = Int64.ofInt y) : a - b = Int64.ofInt (x - y) := by subst ea eb; exact (Int64.ofInt_sub x y).symm
theorem zL_mul (ea : a = Int64.ofInt x) (eb : b = Int64.ofInt y) : a * b = Int64.ofInt (x * y) := by subst ea eb; exact (Int64.ofInt_mul x y).symm
theorem zL_neg (ea : a = Int64.ofInt x) : -a = Int64.ofInt (-x) := by subst ea; exact (Int64.ofInt_neg x).symm
theorem zL_addw (ea : a.toInt = x) (eb : b.toInt = y) : (a + b).toInt = w64 (x + y) := by rw [zL_add (zL_m ea) (zL_m eb), zL_of]
theorem zL_subw (ea : a.toInt = x) (eb : b.toInt = y) : (a - b).toInt = w64 (x - y) := by rw [zL_sub (zL_m ea) (zL_m eb), zL_of]
theorem zL_mulw (ea : a.toInt = x) (eb : b.toInt = y) : (a * b).toInt = w64 (x * y) := by rw [zL_mul (zL_m ea) (zL_m eb), zL_of]
theorem zL_negw (ea : a.toInt = x) : (-a).toInt = w64 (-x) := by rw [zL_neg (zL_m ea), zL_of]
theorem zL_lt (ea : a.toInt = x) (eb : b.toInt = y) (h : a < b) : x < y := by subst ea eb; exact Int64.lt_iff_toInt_lt.mp h
theorem zL_nlt (ea : a.toInt = x) (eb : b.toInt = y) (h : ¬ a < b) : ¬ x < y := by subst ea eb; exact fun q => h (Int64.lt_iff_toInt_lt.mpr q)
theorem zL_le (ea : a.toInt = x) (eb : b.toInt = y) (h : a ≤ b) : x ≤ y := by subst ea eb; exact Int64.le_iff_toInt_le.mp h
theorem zL_nle (ea : a.toInt = x) (eb : b.toInt = y) (h : ¬ a ≤ b) : ¬ x ≤ y := by subst ea eb; exact fun q => h (Int64.le_iff_toInt_le.mpr q)
theorem zL_eq (ea : a.toInt = x) (eb : b.toInt = y) (h : a = b) : x = y := by subst ea eb; rw [h]
theorem zL_ne (ea : a.toInt = x) (eb : b.toInt = y) (h : ¬ a = b) : ¬ x = y := by subst ea eb; exact fun q => h (Int64.toInt_inj.mp q)
theorem zL_neq (ea : a.toInt = x) (eb : b.toInt = y) (h : ¬ a = b) : ¬ x = y := zL_ne ea eb h
theorem zL_ne0 (eb : b.toInt = y) (h : ¬ y = 0) : ¬ b = 0 := by rintro rfl; exact h (eb.symm.trans (by decide))
theorem z_l2iM (e : a = Int64.ofInt x) : a.toInt32 = Int32.ofInt x := by subst e; exact Int64.toInt32_ofInt
theorem z_l2i (e : a.toInt = x) : a.toInt32.toInt = w32 x := by rw [z_l2iM (zL_m e), z_of]
theorem z_lcmp (ea : a.toInt = x) (eb : b.toInt = y) : (lg_cmp a b).toInt = zcmp x y := by
  unfold lg_cmp zcmp
  subst ea eb
  by_cases h : a > b
  · rw [if_pos h, if_pos (Int64.lt_iff_toInt_lt.mp h)]; decide
  · rw [if_neg h, if_neg (fun q => h (Int64.lt_iff_toInt_lt.mpr q))]
    by_cases h2 : a = b
    · subst h2; simp
    · rw [if_neg h2, if_neg (fun q => h2 (Int64.toInt_inj.mp q))]; decide
theorem zL_tn (e : a = Int64.ofInt x) : (a.toBitVec.toNat : Int) = x % 18446744073709551616 := by
  subst e
  show ((BitVec.ofInt 64 x).toNat : Int) = _
  rw [BitVec.toNat_ofInt]
  omega
theorem zL_ext (h : (a.toBitVec.toNat : Int) = x % 18446744073709551616) : a = Int64.ofInt x := by
  apply Int64.toBitVec_inj.mp
  apply BitVec.eq_of_toNat_eq
  have := zL_tn (a := Int64.ofInt x) (x := x) rfl
  omega
theorem zL_and (ea : a = Int64.ofInt x) (eb : b = Int64.ofInt y) : (a &&& b).toInt = zLand x y := by subst ea eb; rfl
theorem zL_or (ea : a = Int64.ofInt x) (eb : b = Int64.ofInt y) : (a ||| b).toInt = zLor x y := by subst ea eb; rfl
theorem zL_xor (ea : a = Int64.ofInt x) (eb : b = Int64.ofInt y) : (a ^^^ b).toInt = zLxor x y := by subst ea eb; rfl
theorem zL_shlG (ea : a.toInt = x) (eb : m.toInt = y) : (a <<< (m.toInt64 &&& 63)).toInt = zLshl x y := by unfold zLshl; rw [← zL_m ea, ← z_m eb]
theorem zL_shrG (ea : a.toInt = x) (eb : m.toInt = y) : (a >>> (m.toInt64 &&& 63)).toInt = zLshr x y := by unfold zLshr; rw [← zL_m ea, ← z_m eb]
theorem zL_ushrG (ea : a.toInt = x) (eb : m.toInt = y) : (a.toUInt64 >>> (m.toInt64.toUInt64 &&& Int64.toUInt64 63)).toInt64.toInt = zLushr x y := by unfold zLushr; rw [← zL_m ea, ← z_m eb]
theorem zL_mask {mm : Int64} (e : a = Int64.ofInt x) (h : mm.toBitVec.toNat = 2 ^ k - 1 ∧ c = ((2 ^ k : Nat) : Int) ∧ k ≤ 63) : (a &&& mm).toInt = x % c := by
  obtain ⟨h1, rfl, hk⟩ := h
  have h63 : 2 ^ k ≤ 2 ^ 63 := Nat.pow_le_pow_right (by omega) hk
  have hp := Nat.two_pow_pos k
  have e1 : (a &&& mm).toBitVec.toNat = a.toBitVec.toNat % 2 ^ k := by
    rw [Int64.toBitVec_and, BitVec.toNat_and, h1, Nat.and_two_pow_sub_one_eq_mod]
  have hm : a.toBitVec.toNat % 2 ^ k < 2 ^ k := Nat.mod_lt _ hp
  have e2 := zL_tn e
  have e3 : (a &&& mm) = Int64.ofInt ((a.toBitVec.toNat % 2 ^ k : Nat) : Int) := zL_ext (by rw [e1]; omega)
  rw [zL_x e3 ⟨by omega, by omega⟩]
  have hd : (2 ^ 64 : Nat) = 2 ^ k * 2 ^ (64 - k) := by rw [← Nat.pow_add]; congr 1; omega
  have : ((a.toBitVec.toNat % 2 ^ k : Nat) : Int) = (x % 18446744073709551616) % ((2 ^ k : Nat) : Int) := by rw [← e2]; exact Int.natCast_emod _ _
  rw [this]
  apply Int.emod_emod_of_dvd
  refine ⟨((2 ^ (64 - k) : Nat) : Int), ?_⟩
  have := congrArg (fun n : Nat => (n : Int)) hd
  simpa using this
theorem zL_div (ea : a.toInt = x) (eb : b.toInt = y) (h : 0 ≤ x) (hy : 0 < y) : (a / b).toInt = x / y := by
  have ra := zL_rng a
  have hle : x / y ≤ x := Int.ediv_le_self _ h
  have h0 : 0 ≤ x / y := Int.ediv_nonneg h (by omega)
  rw [Int64.toInt_div, ea, eb, Int.tdiv_eq_ediv_of_nonneg h]
  exact Int.bmod_eq_of_le (by omega) (by omega)
theorem zL_tdiv (ea : a.toInt = x) (eb : b.toInt = y) (h : zL (Int.tdiv x y)) : (a / b).toInt = Int.tdiv x y := by
  rw [Int64.toInt_div, ea, eb]
  exact Int.bmod_eq_of_le (by omega) (by omega)
theorem zL_rem (ea : a.toInt = x) (eb : b.toInt = y) (h : 0 ≤ x) (hy : 0 < y) : (a - a / b * b).toInt = x % y := by
  have ra := zL_rng a
  have e1 := zL_sub (zL_m ea) (zL_mul (zL_m (zL_div ea eb h hy)) (zL_m eb))
  have e2 : x - x / y * y = x % y := by have := Int.emod_add_ediv_mul x y; omega
  rw [e2] at e1
  have h1 := Int.emod_nonneg x (show y ≠ 0 by omega)
  have h2 : x % y ≤ x := by
    by_cases q : x < y
    · rw [Int.emod_eq_of_lt h q]; omega
    · have := Int.emod_lt_of_pos x hy; omega
  exact zL_x e1 ⟨by omega, by omega⟩
theorem zL_tmod (ea : a.toInt = x) (eb : b.toInt = y) (h : zL (Int.tdiv x y)) : (a - a / b * b).toInt = Int.tmod x y := by
  have ra := zL_rng a
  have e1 := zL_sub (zL_m ea) (zL_mul (zL_m (zL_tdiv ea eb h)) (zL_m eb))
  have e2 : x - Int.tdiv x y * y = Int.tmod x y := by have := Int.mul_tdiv_add_tmod x y; rw [Int.mul_comm] at this; omega
  rw [e2] at e1
  have h3 : (Int.tmod x y).natAbs ≤ x.natAbs := by rw [Int.natAbs_tmod]; exact Nat.mod_le _ _
  refine zL_x e1 ⟨by omega, ?_⟩
  by_cases hx : 0 ≤ x
  · omega
  · have h4 : Int.tmod x y ≤ 0 := by
      have hs : Int.tmod (-x) y = -(Int.tmod x y) := Int.neg_tmod _ _
      have hp : 0 ≤ Int.tmod (-x) y := Int.tmod_nonneg _ (by omega)
      omega
    omega
theorem zL_sm (h : m.toInt = (k : Int)) (hk : k < 64) : ((m.toInt64 &&& 63).toBitVec.smod 64).toNat = k := by
  have : m = nI k := Int32.toInt_inj.mp (by rw [h, z_nIt (by omega)])
  rw [this]; exact sL_l k hk
theorem zL_su (h : m.toInt = (k : Int)) (hk : k < 64) : ((m.toInt64.toUInt64 &&& Int64.toUInt64 63).toBitVec % 64).toNat = k := by
  have : m = nI k := Int32.toInt_inj.mp (by rw [h, z_nIt (by omega)])
  rw [this]; exact sL_u k hk
theorem zL_shl (e : a = Int64.ofInt x) (h : m.toInt = (k : Int) ∧ k < 64 ∧ c = ((2 ^ k : Nat) : Int)) : a <<< (m.toInt64 &&& 63) = Int64.ofInt (x * c) := by
  obtain ⟨h1, hk, rfl⟩ := h
  apply zL_ext
  have e1 : (a <<< (m.toInt64 &&& 63)).toBitVec.toNat = a.toBitVec.toNat * 2 ^ k % 2 ^ 64 := by
    rw [Int64.toBitVec_shiftLeft]
    show (a.toBitVec <<< ((m.toInt64 &&& 63).toBitVec.smod 64).toNat).toNat = _
    rw [zL_sm h1 hk, BitVec.toNat_shiftLeft, Nat.shiftLeft_eq]
  rw [e1, Int.natCast_emod, Int.natCast_mul, zL_tn e]
  show (x % 18446744073709551616 * ((2 ^ k : Nat) : Int)) % 18446744073709551616 = _
  rw [Int.mul_emod, Int.emod_emod_of_dvd _ (Int.dvd_refl _), ← Int.mul_emod]
theorem zL_shlw (e : a.toInt = x) (h : m.toInt = (k : Int) ∧ k < 64 ∧ c = ((2 ^ k : Nat) : Int)) : (a <<< (m.toInt64 &&& 63)).toInt = w64 (x * c) := by rw [zL_shl (zL_m e) h, zL_of]
theorem zL_shr (e : a.toInt = x) (h : m.toInt = (k : Int) ∧ k < 64 ∧ c = ((2 ^ k : Nat) : Int)) : (a >>> (m.toInt64 &&& 63)).toInt = x / c := by
  obtain ⟨h1, hk, rfl⟩ := h
  have e1 : (a >>> (m.toInt64 &&& 63)).toInt = a.toInt >>> k := by
    show (a >>> (m.toInt64 &&& 63)).toBitVec.toInt = a.toBitVec.toInt >>> k
    rw [Int64.toBitVec_shiftRight]
    show (a.toBitVec.sshiftRight ((m.toInt64 &&& 63).toBitVec.smod 64).toNat).toInt = _
    rw [zL_sm h1 hk, BitVec.toInt_sshiftRight]
  rw [e1, e, Int.shiftRight_eq_div_pow]
theorem zL_ushr (e : a.toInt = x) (h : m.toInt = (k : Int) ∧ k < 64 ∧ c = ((2 ^ k : Nat) : Int)) (h1 : 1 ≤ k) : (a.toUInt64 >>> (m.toInt64.toUInt64 &&& Int64.toUInt64 63)).toInt64.toInt = (x % 18446744073709551616) / c := by
  obtain ⟨h0, hk, rfl⟩ := h
  have e1 : (a.toUInt64 >>> (m.toInt64.toUInt64 &&& Int64.toUInt64 63)).toInt64.toBitVec.toNat = a.toBitVec.toNat / 2 ^ k := by
    show (a.toUInt64 >>> (m.toInt64.toUInt64 &&& Int64.toUInt64 63)).toBitVec.toNat = a.toUInt64.toBitVec.toNat / 2 ^ k
    rw [UInt64.toBitVec_shiftRight]
    show (a.toUInt64.toBitVec >>> ((m.toInt64.toUInt64 &&& Int64.toUInt64 63).toBitVec % 64).toNat).toNat = _
    rw [zL_su h0 hk, BitVec.toNat_ushiftRight, Nat.shiftRight_eq_div_pow]
  have e2 := zL_tn (zL_m e)
  have hp : 2 ≤ 2 ^ k := by calc 2 = 2 ^ 1 := rfl
    _ ≤ 2 ^ k := Nat.pow_le_pow_right (by omega) h1
  have hlt : a.toBitVec.toNat / 2 ^ k ≤ a.toBitVec.toNat / 2 := Nat.div_le_div_left hp (by omega)
  have e3 : (a.toUInt64 >>> (m.toInt64.toUInt64 &&& Int64.toUInt64 63)).toInt64 = Int64.ofInt ((a.toBitVec.toNat / 2 ^ k : Nat) : Int) := zL_ext (by rw [e1]; omega)
  rw [zL_x e3 ⟨by omega, by omega⟩, Int.natCast_ediv, e2]
theorem zL_shrV (e : a.toInt = x) (eb : m.toInt = y) (h : 0 ≤ y ∧ y < 64) : (a >>> (m.toInt64 &&& 63)).toInt = x / 2 ^ y.toNat := by
  have := zL_shr (m := m) (k := y.toNat) (c := ((2 ^ y.toNat : Nat) : Int)) e ⟨by omega, by omega, rfl⟩
  rw [this, Int.natCast_pow]; rfl
theorem zL_one (eb : m.toInt = y) (h : 0 ≤ y ∧ y < 63) : ((1 : Int64) <<< (m.toInt64 &&& 63)).toInt = 2 ^ y.toNat := by
  have e1 := zL_shl (a := 1) (x := 1) (m := m) (k := y.toNat) (c := ((2 ^ y.toNat : Nat) : Int)) rfl ⟨by omega, by omega, rfl⟩
  have : 2 ^ y.toNat ≤ 2 ^ 62 := Nat.pow_le_pow_right (by omega) (by omega)
  have hp : 0 < 2 ^ y.toNat := Nat.two_pow_pos _
  rw [zL_x e1 ⟨by omega, by omega⟩, Int.one_mul, Int.natCast_pow]; rfl
end ZL
