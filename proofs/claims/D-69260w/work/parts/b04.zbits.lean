/-! ZBITS: bits of whole numbers (printed by a program, for 32 and 64) -/
def zb (x : Int) (k : Nat) : Int := x / 2 ^ k % 2
theorem zb_01 (x : Int) (k : Nat) : zb x k = 0 ∨ zb x k = 1 := by unfold zb; omega
theorem zb_n0 {x : Int} {k : Nat} (h : ¬ zb x k = 1) : zb x k = 0 := by have := zb_01 x k; omega
theorem zb_n1 {x : Int} {k : Nat} (h : ¬ zb x k = 0) : zb x k = 1 := by have := zb_01 x k; omega
theorem zb_bv {w : Nat} (b : BitVec w) {k : Nat} (hk : k < w) : zb b.toInt k = if b.getLsbD k then 1 else 0 := by
  have e : 2 ^ w = 2 * 2 ^ (w - k - 1) * 2 ^ k := by
    rw [← Nat.pow_succ', ← Nat.pow_add]; congr 1; omega
  have hP : 0 < 2 ^ k := Nat.pow_pos (by decide)
  have g : b.getLsbD k = decide (b.toNat / 2 ^ k % 2 = 1) := by
    rw [← BitVec.testBit_toNat, Nat.testBit_eq_decide_div_mod_eq]
  have main : zb b.toInt k = ((b.toNat / 2 ^ k % 2 : Nat) : Int) := by
    unfold zb
    have c2 : ((2 : Int) ^ k) = ((2 ^ k : Nat) : Int) := by push_cast; rfl
    rw [BitVec.toInt_eq_toNat_cond, c2]
    generalize 2 ^ k = P at e hP ⊢
    generalize 2 ^ (w - k - 1) = Q at e
    generalize b.toNat = n
    split
    · push_cast; rfl
    · rw [e]
      have : ((n : Int) - ((2 * Q * P : Nat) : Int)) = (n : Int) + (-(2 * (Q : Int))) * (P : Int) := by
        push_cast; rw [Int.neg_mul, Int.sub_eq_add_neg]
      rw [this, Int.add_mul_ediv_right _ _ (by omega)]
      have h2 : ((n / P % 2 : Nat) : Int) = (n : Int) / (P : Int) % 2 := by push_cast; rfl
      rw [h2]
      omega
  rw [main, g]
  have : b.toNat / 2 ^ k % 2 < 2 := Nat.mod_lt _ (by decide)
  by_cases hc : b.toNat / 2 ^ k % 2 = 1
  · simp [hc]
  · have : b.toNat / 2 ^ k % 2 = 0 := by omega
    simp [this]
theorem zR_t (a : Int32) : zR a.toInt := by
  have h1 := Int32.le_toInt a
  have h2 := Int32.toInt_lt a
  unfold zR; omega
theorem zL_t (a : Int64) : zL a.toInt := by
  have h1 := Int64.le_toInt a
  have h2 := Int64.toInt_lt a
  unfold zL; omega
section
theorem zb_not (x : Int) (k : Nat) : zb (-x - 1) k = 1 ↔ ¬ zb x k = 1 := by
  unfold zb
  have hp : (0 : Int) < 2 ^ k := Int.pow_pos (by decide)
  generalize (2 : Int) ^ k = P at hp
  have h1 := Int.mul_ediv_add_emod x P
  have h2 := Int.emod_nonneg x (Int.ne_of_gt hp)
  have h3 := Int.emod_lt_of_pos x hp
  generalize x / P = q at h1 ⊢
  generalize x % P = r at h1 h2 h3
  have e : -x - 1 = (P - 1 - r) + (-q - 1) * P := by
    rw [← h1, Int.sub_mul, Int.neg_mul, Int.one_mul, Int.mul_comm q P]; omega
  rw [e, Int.add_mul_ediv_right _ _ (Int.ne_of_gt hp), Int.ediv_eq_zero_of_lt (by omega) (by omega)]
  omega
theorem zb_pow (j k : Nat) : zb (2 ^ j) k = 1 ↔ k = j := by
  unfold zb
  have hp : (0 : Int) < 2 ^ k := Int.pow_pos (by decide)
  rcases Nat.lt_trichotomy j k with h | h | h
  · rw [Int.ediv_eq_zero_of_lt (Int.le_of_lt (Int.pow_pos (by decide))) (Int.pow_lt_pow_of_lt (by decide) h)]
    omega
  · subst h
    rw [Int.ediv_self (Int.ne_of_gt hp)]
    simp
  · have e : (2 : Int) ^ j = 2 ^ k * (2 * 2 ^ (j - k - 1)) := by
      rw [← Int.pow_succ', ← Int.pow_add]; congr 1; omega
    rw [e, Int.mul_ediv_cancel_left _ (Int.ne_of_gt hp)]
    omega
theorem zb_zero (k : Nat) : zb 0 k = 0 := by unfold zb; simp
theorem zb_I32 (a : Int32) {k : Nat} (hk : k < 32) : zb a.toInt k = if a.toBitVec.getLsbD k then 1 else 0 := zb_bv a.toBitVec hk
theorem zb_o32 {x : Int} (hx : zR x) {k : Nat} (hk : k < 32) : zb x k = if (Int32.ofInt x).toBitVec.getLsbD k then 1 else 0 := by
  rw [← zb_I32 _ hk, z_x rfl hx]
theorem zb_and32 {x y : Int} (hx : zR x) (hy : zR y) {k : Nat} (hk : k < 32) : zb (zand x y) k = 1 ↔ zb x k = 1 ∧ zb y k = 1 := by
  rw [zb_o32 hx hk, zb_o32 hy hk, show zand x y = (Int32.ofInt x &&& Int32.ofInt y).toInt from rfl, zb_I32 _ hk, Int32.toBitVec_and, BitVec.getLsbD_and]
  cases (Int32.ofInt x).toBitVec.getLsbD k <;> cases (Int32.ofInt y).toBitVec.getLsbD k <;> decide
theorem zb_or32 {x y : Int} (hx : zR x) (hy : zR y) {k : Nat} (hk : k < 32) : zb (zor x y) k = 1 ↔ zb x k = 1 ∨ zb y k = 1 := by
  rw [zb_o32 hx hk, zb_o32 hy hk, show zor x y = (Int32.ofInt x ||| Int32.ofInt y).toInt from rfl, zb_I32 _ hk, Int32.toBitVec_or, BitVec.getLsbD_or]
  cases (Int32.ofInt x).toBitVec.getLsbD k <;> cases (Int32.ofInt y).toBitVec.getLsbD k <;> decide
theorem zb_xor32 {x y : Int} (hx : zR x) (hy : zR y) {k : Nat} (hk : k < 32) : zb (zxor x y) k = 1 ↔ ¬ (zb x k = 1 ↔ zb y k = 1) := by
  rw [zb_o32 hx hk, zb_o32 hy hk, show zxor x y = (Int32.ofInt x ^^^ Int32.ofInt y).toInt from rfl, zb_I32 _ hk, Int32.toBitVec_xor, BitVec.getLsbD_xor]
  cases (Int32.ofInt x).toBitVec.getLsbD k <;> cases (Int32.ofInt y).toBitVec.getLsbD k <;> decide
theorem zb_ext32 {x y : Int} (hx : zR x) (hy : zR y) (h : ∀ k, k < 32 → (zb x k = 1 ↔ zb y k = 1)) : x = y := by
  have e : (Int32.ofInt x).toBitVec = (Int32.ofInt y).toBitVec := by
    apply BitVec.eq_of_getLsbD_eq
    intro k hk
    have := h k hk
    rw [zb_o32 hx hk, zb_o32 hy hk] at this
    generalize (Int32.ofInt x).toBitVec.getLsbD k = p at this ⊢
    generalize (Int32.ofInt y).toBitVec.getLsbD k = q at this ⊢
    cases p <;> cases q <;> simp_all
  have e2 : Int32.ofInt x = Int32.ofInt y := Int32.toBitVec_inj.mp e
  have ex := z_x (a := Int32.ofInt x) rfl hx
  have ey := z_x (a := Int32.ofInt y) rfl hy
  rw [← ex, ← ey, e2]
theorem zr_and32 (x y : Int) : zR (zand x y) := zR_t _
theorem zr_or32 (x y : Int) : zR (zor x y) := zR_t _
theorem zr_xor32 (x y : Int) : zR (zxor x y) := zR_t _
theorem zb_I64 (a : Int64) {k : Nat} (hk : k < 64) : zb a.toInt k = if a.toBitVec.getLsbD k then 1 else 0 := zb_bv a.toBitVec hk
theorem zb_o64 {x : Int} (hx : zL x) {k : Nat} (hk : k < 64) : zb x k = if (Int64.ofInt x).toBitVec.getLsbD k then 1 else 0 := by
  rw [← zb_I64 _ hk, zL_x rfl hx]
theorem zb_and64 {x y : Int} (hx : zL x) (hy : zL y) {k : Nat} (hk : k < 64) : zb (zLand x y) k = 1 ↔ zb x k = 1 ∧ zb y k = 1 := by
  rw [zb_o64 hx hk, zb_o64 hy hk, show zLand x y = (Int64.ofInt x &&& Int64.ofInt y).toInt from rfl, zb_I64 _ hk, Int64.toBitVec_and, BitVec.getLsbD_and]
  cases (Int64.ofInt x).toBitVec.getLsbD k <;> cases (Int64.ofInt y).toBitVec.getLsbD k <;> decide
theorem zb_or64 {x y : Int} (hx : zL x) (hy : zL y) {k : Nat} (hk : k < 64) : zb (zLor x y) k = 1 ↔ zb x k = 1 ∨ zb y k = 1 := by
  rw [zb_o64 hx hk, zb_o64 hy hk, show zLor x y = (Int64.ofInt x ||| Int64.ofInt y).toInt from rfl, zb_I64 _ hk, Int64.toBitVec_or, BitVec.getLsbD_or]
  cases (Int64.ofInt x).toBitVec.getLsbD k <;> cases (Int64.ofInt y).toBitVec.getLsbD k <;> decide
theorem zb_xor64 {x y : Int} (hx : zL x) (hy : zL y) {k : Nat} (hk : k < 64) : zb (zLxor x y) k = 1 ↔ ¬ (zb x k = 1 ↔ zb y k = 1) := by
  rw [zb_o64 hx hk, zb_o64 hy hk, show zLxor x y = (Int64.ofInt x ^^^ Int64.ofInt y).toInt from rfl, zb_I64 _ hk, Int64.toBitVec_xor, BitVec.getLsbD_xor]
  cases (Int64.ofInt x).toBitVec.getLsbD k <;> cases (Int64.ofInt y).toBitVec.getLsbD k <;> decide
theorem zb_ext64 {x y : Int} (hx : zL x) (hy : zL y) (h : ∀ k, k < 64 → (zb x k = 1 ↔ zb y k = 1)) : x = y := by
  have e : (Int64.ofInt x).toBitVec = (Int64.ofInt y).toBitVec := by
    apply BitVec.eq_of_getLsbD_eq
    intro k hk
    have := h k hk
    rw [zb_o64 hx hk, zb_o64 hy hk] at this
    generalize (Int64.ofInt x).toBitVec.getLsbD k = p at this ⊢
    generalize (Int64.ofInt y).toBitVec.getLsbD k = q at this ⊢
    cases p <;> cases q <;> simp_all
  have e2 : Int64.ofInt x = Int64.ofInt y := Int64.toBitVec_inj.mp e
  have ex := zL_x (a := Int64.ofInt x) rfl hx
  have ey := zL_x (a := Int64.ofInt y) rfl hy
  rw [← ex, ← ey, e2]
theorem zr_and64 (x y : Int) : zL (zLand x y) := zL_t _
theorem zr_or64 (x y : Int) : zL (zLor x y) := zL_t _
theorem zr_xor64 (x y : Int) : zL (zLxor x y) := zL_t _
end
