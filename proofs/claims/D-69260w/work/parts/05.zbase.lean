/-! ZBASE: Java's numbers as Int: exact (a.toInt = x), or known modulo 2^32, 2^64 (a = ofInt x) -/
set_option maxRecDepth 100000
abbrev zR (z : Int) : Prop := -2147483648 ≤ z ∧ z < 2147483648
abbrev zL (z : Int) : Prop := -9223372036854775808 ≤ z ∧ z < 9223372036854775808
def zF (f : Nat → Int32) : Int → Int := fun j => if 0 ≤ j then (f j.toNat).toInt else 0
def zG (f : Nat → Int64) : Int → Int := fun j => if 0 ≤ j then (f j.toNat).toInt else 0
def updI {α : Type} (f : Int → α) (i : Int) (v : α) : Int → α := fun j => if j = i then v else f j
def w32 (z : Int) : Int := z.bmod 4294967296
def w64 (z : Int) : Int := z.bmod 18446744073709551616
def w8 (z : Int) : Int := z.bmod 256
def zcmp (x y : Int) : Int := if x > y then 1 else if x = y then 0 else -1
theorem z_rng (a : Int32) : zR a.toInt := ⟨by have := Int32.le_toInt a; omega, by have := Int32.toInt_lt a; omega⟩
theorem zL_rng (a : Int64) : zL a.toInt := ⟨by have := Int64.le_toInt a; omega, by have := Int64.toInt_lt a; omega⟩
theorem w32_id {x : Int} (h : zR x) : w32 x = x := by unfold w32; rw [Int.bmod_eq_of_le (by omega) (by omega)]
theorem w64_id {x : Int} (h : zL x) : w64 x = x := by unfold w64; rw [Int.bmod_eq_of_le (by omega) (by omega)]
theorem w8_id {x : Int} (h : -128 ≤ x ∧ x < 128) : w8 x = x := by unfold w8; rw [Int.bmod_eq_of_le (by omega) (by omega)]
theorem z_of (x : Int) : (Int32.ofInt x).toInt = w32 x := Int32.toInt_ofInt
theorem zL_of (x : Int) : (Int64.ofInt x).toInt = w64 x := Int64.toInt_ofInt
section Z
variable {a b m : Int32} {x y c : Int} {k : Nat}
theorem z_m (e : a.toInt = x) : a = Int32.ofInt x := by subst e; exact (Int32.ofInt_toInt a).symm
theorem z_x (e : a = Int32.ofInt x) (h : zR x) : a.toInt = x := by rw [e, z_of, w32_id h]
theorem z_xi {N : Int} (e : a = Int32.ofInt x) (h : 0 ≤ x ∧ x < N) (hN : N ≤ 2147483648) : a.toInt = x := z_x e ⟨by omega, by omega⟩
theorem z_in {N : Nat} (e : a.toInt = x) (h : 0 ≤ x ∧ x < N) : vp_in a N := by rw [vp_in_iff, e]; exact h
theorem z_add (ea : a = Int32.ofInt x) (eb : b = Int32.ofInt y) : a + b = Int32.ofInt (x + y) := by subst ea eb; exact (Int32.ofInt_add x y).symm
theorem z_sub (ea : a = Int32.ofInt x) (eb : b = Int32.ofInt y) : a - b = Int32.ofInt (x - y) := by subst ea eb; exact (Int32.ofInt_sub x y).symm
theorem z_mul (ea : a = Int32.ofInt x) (eb : b = Int32.ofInt y) : a * b = Int32.ofInt (x * y) := by subst ea eb; exact (Int32.ofInt_mul x y).symm
theorem z_neg (ea : a = Int32.ofInt x) : -a = Int32.ofInt (-x) := by subst ea; exact (Int32.ofInt_neg x).symm
theorem z_addw (ea : a.toInt = x) (eb : b.toInt = y) : (a + b).toInt = w32 (x + y) := by rw [z_add (z_m ea) (z_m eb), z_of]
theorem z_subw (ea : a.toInt = x) (eb : b.toInt = y) : (a - b).toInt = w32 (x - y) := by rw [z_sub (z_m ea) (z_m eb), z_of]
theorem z_mulw (ea : a.toInt = x) (eb : b.toInt = y) : (a * b).toInt = w32 (x * y) := by rw [z_mul (z_m ea) (z_m eb), z_of]
theorem z_negw (ea : a.toInt = x) : (-a).toInt = w32 (-x) := by rw [z_neg (z_m ea), z_of]
theorem z_lt (ea : a.toInt = x) (eb : b.toInt = y) (h : a < b) : x < y := by subst ea eb; exact Int32.lt_iff_toInt_lt.mp h
theorem z_nlt (ea : a.toInt = x) (eb : b.toInt = y) (h : ¬ a < b) : ¬ x < y := by subst ea eb; exact fun q => h (Int32.lt_iff_toInt_lt.mpr q)
theorem z_le (ea : a.toInt = x) (eb : b.toInt = y) (h : a ≤ b) : x ≤ y := by subst ea eb; exact Int32.le_iff_toInt_le.mp h
theorem z_nle (ea : a.toInt = x) (eb : b.toInt = y) (h : ¬ a ≤ b) : ¬ x ≤ y := by subst ea eb; exact fun q => h (Int32.le_iff_toInt_le.mpr q)
theorem z_eq (ea : a.toInt = x) (eb : b.toInt = y) (h : a = b) : x = y := by subst ea eb; rw [h]
theorem z_ne (ea : a.toInt = x) (eb : b.toInt = y) (h : ¬ a = b) : ¬ x = y := by subst ea eb; exact fun q => h (Int32.toInt_inj.mp q)
theorem z_neq (ea : a.toInt = x) (eb : b.toInt = y) (h : ¬ a = b) : ¬ x = y := z_ne ea eb h
theorem z_ne0 (eb : b.toInt = y) (h : ¬ y = 0) : ¬ b = 0 := by rintro rfl; exact h (eb.symm.trans (by decide))
theorem z_bool {a : Int32} (h : a.toInt = 0 ∨ a.toInt = 1) : a = 0 ∨ a = 1 := h.imp (fun q => Int32.toInt_inj.mp (q.trans (by decide))) (fun q => Int32.toInt_inj.mp (q.trans (by decide)))
theorem z_boolE (e : a.toInt = x) (h : x = 0 ∨ x = 1) : a = 0 ∨ a = 1 := z_bool (e ▸ h)
theorem z_ld {f : Nat → Int32} (e : a.toInt = x) (h : 0 ≤ x) : (f a.toNatClampNeg).toInt = zF f x := by unfold zF; rw [if_pos h, ← e]; rfl
theorem z_ldL {f : Nat → Int64} (e : a.toInt = x) (h : 0 ≤ x) : (f a.toNatClampNeg).toInt = zG f x := by unfold zG; rw [if_pos h, ← e]; rfl
theorem z_st {f : Nat → Int32} {v : Int32} (e : a.toInt = x) (h : 0 ≤ x) (ev : v.toInt = y) : zF (upd f a.toNatClampNeg v) = updI (zF f) x y := by
  have ec : a.toNatClampNeg = x.toNat := by rw [← e]; rfl
  funext j
  unfold zF updI upd
  rw [ec]
  by_cases h0 : 0 ≤ j
  · by_cases hj : j = x
    · subst hj; simp [h0, ev]
    · have : ¬ j.toNat = x.toNat := by omega
      simp [h0, hj, this]
  · have : ¬ j = x := by omega
    simp [h0, this]
theorem z_stL {f : Nat → Int64} {v : Int64} (e : a.toInt = x) (h : 0 ≤ x) (ev : v.toInt = y) : zG (vp_updL f a.toNatClampNeg v) = updI (zG f) x y := by
  have ec : a.toNatClampNeg = x.toNat := by rw [← e]; rfl
  funext j
  unfold zG updI vp_updL
  rw [ec]
  by_cases h0 : 0 ≤ j
  · by_cases hj : j = x
    · subst hj; simp [h0, ev]
    · have : ¬ j.toNat = x.toNat := by omega
      simp [h0, hj, this]
  · have : ¬ j = x := by omega
    simp [h0, this]
theorem z_narZ (e : a.toInt = x) (h : x = 0 ∨ x = 1) : (vp_nar .boolean a).toInt = x := by
  rcases z_boolE e h with rfl | rfl
  · rw [← e]; rfl
  · rw [← e]; rfl
theorem z_narB (e : a.toInt = x) (h : -128 ≤ x ∧ x < 128) : (vp_nar .byte a).toInt = x := by
  rw [vp_nar_byte, Int8.toInt_toInt32, Int32.toInt_toInt8, e]
  exact Int.bmod_eq_of_le (by omega) (by omega)
theorem z_i2l (e : a.toInt = x) : a.toInt64.toInt = x := by rw [Int32.toInt_toInt64, e]
theorem z_i2b (e : a = Int32.ofInt x) : a.toInt8.toInt32.toInt = w8 x := by
  subst e
  rw [Int8.toInt_toInt32, Int32.toInt_toInt8, z_of]
  unfold w32 w8
  exact Int.bmod_bmod_of_dvd (by decide)
theorem z_tn (e : a = Int32.ofInt x) : (a.toBitVec.toNat : Int) = x % 4294967296 := by
  subst e
  show ((BitVec.ofInt 32 x).toNat : Int) = _
  rw [BitVec.toNat_ofInt]
  omega
theorem z_ext (h : (a.toBitVec.toNat : Int) = x % 4294967296) : a = Int32.ofInt x := by
  apply Int32.toBitVec_inj.mp
  apply BitVec.eq_of_toNat_eq
  have := z_tn (a := Int32.ofInt x) (x := x) rfl
  omega
theorem z_nIt {n : Nat} (h : n < 2147483648) : (nI n).toInt = (n : Int) := nI_toInt (by omega)
theorem z_i2c (e : a = Int32.ofInt x) : (a.toUInt32 % 65536).toInt32.toInt = x % 65536 := by
  rw [pk_char, z_nIt (by omega)]
  have := z_tn e
  omega
theorem z_mask (e : a = Int32.ofInt x) (h : m.toBitVec.toNat = 2 ^ k - 1 ∧ c = ((2 ^ k : Nat) : Int) ∧ k ≤ 31) : (a &&& m).toInt = x % c := by
  obtain ⟨h1, rfl, hk⟩ := h
  have h31 : 2 ^ k ≤ 2 ^ 31 := Nat.pow_le_pow_right (by omega) hk
  have hm : a.toBitVec.toNat % 2 ^ k < 2 ^ k := Nat.mod_lt _ (Nat.two_pow_pos k)
  rw [pk_and a k h1, z_nIt (by omega)]
  have e2 := z_tn e
  have hd : (2 ^ 32 : Nat) = 2 ^ k * 2 ^ (32 - k) := by rw [← Nat.pow_add]; congr 1; omega
  have : ((a.toBitVec.toNat % 2 ^ k : Nat) : Int) = (x % 4294967296) % ((2 ^ k : Nat) : Int) := by rw [← e2]; exact Int.natCast_emod _ _
  rw [this]
  apply Int.emod_emod_of_dvd
  refine ⟨((2 ^ (32 - k) : Nat) : Int), ?_⟩
  have := congrArg (fun n : Nat => (n : Int)) hd
  simpa using this
theorem z_not (e : a.toInt = x) : (a ^^^ (-1)).toInt = -x - 1 := by
  have hr := z_rng a
  have : a ^^^ (-1) = -a - 1 := by
    have e1 : (-a - 1 : Int32) = ~~~a := by
      apply Int32.toBitVec_inj.mp
      show -a.toBitVec - 1#32 = ~~~a.toBitVec
      rw [BitVec.neg_eq_not_add]; exact BitVec.add_sub_cancel _ _
    rw [e1]
    apply Int32.toBitVec_inj.mp
    show a.toBitVec ^^^ (-1 : Int32).toBitVec = ~~~a.toBitVec
    have : (-1 : Int32).toBitVec = BitVec.allOnes 32 := by decide
    rw [this]
    exact BitVec.xor_allOnes
  rw [this]
  exact z_x (z_sub (z_neg (z_m e)) (b := 1) (y := 1) rfl) ⟨by omega, by omega⟩
def zand (x y : Int) : Int := (Int32.ofInt x &&& Int32.ofInt y).toInt
def zor (x y : Int) : Int := (Int32.ofInt x ||| Int32.ofInt y).toInt
def zxor (x y : Int) : Int := (Int32.ofInt x ^^^ Int32.ofInt y).toInt
def zshl (x y : Int) : Int := (Int32.ofInt x <<< (Int32.ofInt y &&& 31)).toInt
def zshr (x y : Int) : Int := (Int32.ofInt x >>> (Int32.ofInt y &&& 31)).toInt
def zushr (x y : Int) : Int := ((Int32.ofInt x).toUInt32 >>> ((Int32.ofInt y).toUInt32 &&& Int32.toUInt32 31)).toInt32.toInt
theorem z_and (ea : a = Int32.ofInt x) (eb : b = Int32.ofInt y) : (a &&& b).toInt = zand x y := by subst ea eb; rfl
theorem z_or (ea : a = Int32.ofInt x) (eb : b = Int32.ofInt y) : (a ||| b).toInt = zor x y := by subst ea eb; rfl
theorem z_xor (ea : a = Int32.ofInt x) (eb : b = Int32.ofInt y) : (a ^^^ b).toInt = zxor x y := by subst ea eb; rfl
theorem z_shlG (ea : a.toInt = x) (eb : b.toInt = y) : (a <<< (b &&& 31)).toInt = zshl x y := by unfold zshl; rw [← z_m ea, ← z_m eb]
theorem z_shrG (ea : a.toInt = x) (eb : b.toInt = y) : (a >>> (b &&& 31)).toInt = zshr x y := by unfold zshr; rw [← z_m ea, ← z_m eb]
theorem z_ushrG (ea : a.toInt = x) (eb : b.toInt = y) : (a.toUInt32 >>> (b.toUInt32 &&& Int32.toUInt32 31)).toInt32.toInt = zushr x y := by unfold zushr; rw [← z_m ea, ← z_m eb]
theorem z_div (ea : a.toInt = x) (eb : b.toInt = y) (h : 0 ≤ x) (hy : 0 < y) : (a / b).toInt = x / y := by
  have ra := z_rng a
  have rb := z_rng b
  have e1 : a = nI x.toNat := Int32.toInt_inj.mp (by rw [z_nIt (by omega), ea]; omega)
  have e2 : b = nI y.toNat := Int32.toInt_inj.mp (by rw [z_nIt (by omega), eb]; omega)
  rw [e1, e2, pk_div (by omega) (by omega) (by omega)]
  have hle : x.toNat / y.toNat ≤ x.toNat := Nat.div_le_self _ _
  rw [z_nIt (by omega), Int.natCast_ediv, Int.toNat_of_nonneg h, Int.toNat_of_nonneg (by omega)]
theorem z_rem (ea : a.toInt = x) (eb : b.toInt = y) (h : 0 ≤ x) (hy : 0 < y) : (a - a / b * b).toInt = x % y := by
  have ra := z_rng a
  have rb := z_rng b
  have e1 : a = nI x.toNat := Int32.toInt_inj.mp (by rw [z_nIt (by omega), ea]; omega)
  have e2 : b = nI y.toNat := Int32.toInt_inj.mp (by rw [z_nIt (by omega), eb]; omega)
  rw [e1, e2, pk_rem (by omega) (by omega) (by omega)]
  have hle : x.toNat % y.toNat ≤ x.toNat := Nat.mod_le _ _
  rw [z_nIt (by omega), Int.natCast_emod, Int.toNat_of_nonneg h, Int.toNat_of_nonneg (by omega)]
theorem z_tdiv (ea : a.toInt = x) (eb : b.toInt = y) (h : zR (Int.tdiv x y)) : (a / b).toInt = Int.tdiv x y := by
  rw [Int32.toInt_div, ea, eb]
  exact Int.bmod_eq_of_le (by omega) (by omega)
theorem z_tmod (ea : a.toInt = x) (eb : b.toInt = y) (h : zR (Int.tdiv x y)) : (a - a / b * b).toInt = Int.tmod x y := by
  have ra := z_rng a
  have e1 := z_sub (z_m ea) (z_mul (z_m (z_tdiv ea eb h)) (z_m eb))
  have e2 : x - Int.tdiv x y * y = Int.tmod x y := by have := Int.mul_tdiv_add_tmod x y; rw [Int.mul_comm] at this; omega
  rw [e2] at e1
  have h3 : (Int.tmod x y).natAbs ≤ x.natAbs := by rw [Int.natAbs_tmod]; exact Nat.mod_le _ _
  refine z_x e1 ⟨?_, ?_⟩
  · omega
  · by_cases hx : 0 ≤ x
    · omega
    · have h4 : Int.tmod x y ≤ 0 := by
        rcases Int.le_total 0 (Int.tmod x y) with q | q
        · have := Int.tmod_add_tdiv_mul x y
          have hs : Int.tmod (-x) y = -(Int.tmod x y) := Int.neg_tmod _ _
          have hp : 0 ≤ Int.tmod (-x) y := Int.tmod_nonneg _ (by omega)
          omega
        · exact q
      omega
theorem z_sm (h : m.toInt = (k : Int)) (hk : k < 32) : ((m &&& 31).toBitVec.smod 32).toNat = k := by
  have : m = nI k := Int32.toInt_inj.mp (by rw [h, z_nIt (by omega)])
  rw [this]; exact s_l k hk
theorem z_su (h : m.toInt = (k : Int)) (hk : k < 32) : ((m.toUInt32 &&& Int32.toUInt32 31).toBitVec % 32).toNat = k := by
  have : m = nI k := Int32.toInt_inj.mp (by rw [h, z_nIt (by omega)])
  rw [this]; exact s_u k hk
theorem z_shl (e : a = Int32.ofInt x) (h : m.toInt = (k : Int) ∧ k < 32 ∧ c = ((2 ^ k : Nat) : Int)) : a <<< (m &&& 31) = Int32.ofInt (x * c) := by
  obtain ⟨h1, hk, rfl⟩ := h
  apply z_ext
  rw [pk_shl _ _ k (z_sm h1 hk), Int.natCast_emod, Int.natCast_mul, z_tn e]
  show (x % 4294967296 * ((2 ^ k : Nat) : Int)) % 4294967296 = _
  rw [Int.mul_emod, Int.emod_emod_of_dvd _ (Int.dvd_refl _), ← Int.mul_emod]
theorem z_shlw (e : a.toInt = x) (h : m.toInt = (k : Int) ∧ k < 32 ∧ c = ((2 ^ k : Nat) : Int)) : (a <<< (m &&& 31)).toInt = w32 (x * c) := by rw [z_shl (z_m e) h, z_of]
theorem z_shr (e : a.toInt = x) (h : m.toInt = (k : Int) ∧ k < 32 ∧ c = ((2 ^ k : Nat) : Int)) : (a >>> (m &&& 31)).toInt = x / c := by
  obtain ⟨h1, hk, rfl⟩ := h
  rw [pk_shr _ _ k (z_sm h1 hk), e, Int.shiftRight_eq_div_pow]
theorem z_ushr (e : a.toInt = x) (h : m.toInt = (k : Int) ∧ k < 32 ∧ c = ((2 ^ k : Nat) : Int)) (h1 : 1 ≤ k) : (a.toUInt32 >>> (m.toUInt32 &&& Int32.toUInt32 31)).toInt32.toInt = (x % 4294967296) / c := by
  obtain ⟨h0, hk, rfl⟩ := h
  have e1 := pk_ushr a m k (z_su h0 hk)
  have e2 := z_tn (z_m e)
  have hp : 2 ≤ 2 ^ k := by calc 2 = 2 ^ 1 := rfl
    _ ≤ 2 ^ k := Nat.pow_le_pow_right (by omega) h1
  have hlt : a.toBitVec.toNat / 2 ^ k ≤ a.toBitVec.toNat / 2 := Nat.div_le_div_left hp (by omega)
  have e3 : (a.toUInt32 >>> (m.toUInt32 &&& Int32.toUInt32 31)).toInt32 = Int32.ofInt ((a.toBitVec.toNat / 2 ^ k : Nat) : Int) := z_ext (by rw [e1]; omega)
  rw [z_x e3 ⟨by omega, by omega⟩, Int.natCast_ediv, e2]
theorem z_shrV (e : a.toInt = x) (eb : b.toInt = y) (h : 0 ≤ y ∧ y < 32) : (a >>> (b &&& 31)).toInt = x / 2 ^ y.toNat := by
  have := z_shr (m := b) (k := y.toNat) (c := ((2 ^ y.toNat : Nat) : Int)) e ⟨by omega, by omega, rfl⟩
  rw [this, Int.natCast_pow]; rfl
theorem z_one (eb : b.toInt = y) (h : 0 ≤ y ∧ y < 31) : ((1 : Int32) <<< (b &&& 31)).toInt = 2 ^ y.toNat := by
  have e1 := z_shl (a := 1) (x := 1) (m := b) (k := y.toNat) (c := ((2 ^ y.toNat : Nat) : Int)) rfl ⟨by omega, by omega, rfl⟩
  have : 2 ^ y.toNat ≤ 2 ^ 30 := Nat.pow_le_pow_right (by omega) (by omega)
  have hp : 0 < 2 ^ y.toNat := Nat.two_pow_pos _
  rw [z_x e1 ⟨by omega, by omega⟩, Int.one_mul, Int.natCast_pow]; rfl
end Z
