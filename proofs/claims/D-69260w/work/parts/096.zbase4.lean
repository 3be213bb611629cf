/-! ZBASE 4: copies, tables -/
def zcpy {α : Type} (f g : Int → α) (sp dp n : Int) : Int → α := fun k => if dp ≤ k ∧ k < dp + n then f (sp + (k - dp)) else g k
theorem zcpy_in {α : Type} {f g : Int → α} {sp dp n k : Int} (h1 : dp ≤ k) (h2 : k < dp + n) : zcpy f g sp dp n k = f (sp + (k - dp)) := if_pos ⟨h1, h2⟩
theorem zcpy_out {α : Type} {f g : Int → α} {sp dp n k : Int} (h : k < dp ∨ dp + n ≤ k) : zcpy f g sp dp n k = g k := if_neg (by omega)
theorem z_tcn {i : Int32} {x : Int} (e : i.toInt = x) : i.toNatClampNeg = x.toNat := by rw [← e]; rfl
theorem z_cpyF0 {f g : Nat → Int32} {sp dp n : Int32} {x y z : Int} (e1 : sp.toInt = x) (e2 : dp.toInt = y) (e3 : n.toInt = z) (h1 : 0 ≤ x) (h2 : 0 ≤ y) (h3 : 0 ≤ z) : zF (va_cpy f g sp.toNatClampNeg dp.toNatClampNeg n.toNatClampNeg) = zcpy (zF f) (zF g) x y z := by
  rw [z_tcn e1, z_tcn e2, z_tcn e3]
  funext k
  unfold zF zcpy va_cpy; dsimp only
  by_cases hk : 0 ≤ k
  · rw [if_pos hk]
    by_cases hc : y ≤ k ∧ k < y + z
    · rw [if_pos hc, if_pos (by omega), if_pos (by omega)]
      congr 2; omega
    · rw [if_neg hc, if_neg (by omega), if_pos hk]
  · rw [if_neg hk, if_neg (by omega), if_neg hk]
theorem z_cpyG0 {f g : Nat → Int64} {sp dp n : Int32} {x y z : Int} (e1 : sp.toInt = x) (e2 : dp.toInt = y) (e3 : n.toInt = z) (h1 : 0 ≤ x) (h2 : 0 ≤ y) (h3 : 0 ≤ z) : zG (va_cpy f g sp.toNatClampNeg dp.toNatClampNeg n.toNatClampNeg) = zcpy (zG f) (zG g) x y z := by
  rw [z_tcn e1, z_tcn e2, z_tcn e3]
  funext k
  unfold zG zcpy va_cpy; dsimp only
  by_cases hk : 0 ≤ k
  · rw [if_pos hk]
    by_cases hc : y ≤ k ∧ k < y + z
    · rw [if_pos hc, if_pos (by omega), if_pos (by omega)]
      congr 2; omega
    · rw [if_neg hc, if_neg (by omega), if_pos hk]
  · rw [if_neg hk, if_neg (by omega), if_neg hk]
theorem z_cpyH0 {f g : Nat → Option Nat} {sp dp n : Int32} {x y z : Int} (e1 : sp.toInt = x) (e2 : dp.toInt = y) (e3 : n.toInt = z) (h1 : 0 ≤ x) (h2 : 0 ≤ y) (h3 : 0 ≤ z) : zH (va_cpy f g sp.toNatClampNeg dp.toNatClampNeg n.toNatClampNeg) = zcpy (zH f) (zH g) x y z := by
  rw [z_tcn e1, z_tcn e2, z_tcn e3]
  funext k
  unfold zH zcpy va_cpy; dsimp only
  by_cases hk : 0 ≤ k
  · rw [if_pos hk]
    by_cases hc : y ≤ k ∧ k < y + z
    · rw [if_pos hc, if_pos (by omega), if_pos (by omega)]
      congr 1; omega
    · rw [if_neg hc, if_neg (by omega), if_pos hk]
  · rw [if_neg hk, if_neg (by omega), if_neg hk]
theorem z_cpyF {f : Nat → Nat → Int32} {a b : Nat} {sp dp n : Int32} {x y z : Int} (e1 : sp.toInt = x) (e2 : dp.toInt = y) (e3 : n.toInt = z) (h1 : 0 ≤ x) (h2 : 0 ≤ y) (h3 : 0 ≤ z) : zFF (va_up f b (va_cpy (f a) (f b) sp.toNatClampNeg dp.toNatClampNeg n.toNatClampNeg)) = va_up (zFF f) b (zcpy (zFF f a) (zFF f b) x y z) := z_upA (g := zF) (z_cpyF0 e1 e2 e3 h1 h2 h3)
theorem z_cpyG {f : Nat → Nat → Int64} {a b : Nat} {sp dp n : Int32} {x y z : Int} (e1 : sp.toInt = x) (e2 : dp.toInt = y) (e3 : n.toInt = z) (h1 : 0 ≤ x) (h2 : 0 ≤ y) (h3 : 0 ≤ z) : zGG (va_up f b (va_cpy (f a) (f b) sp.toNatClampNeg dp.toNatClampNeg n.toNatClampNeg)) = va_up (zGG f) b (zcpy (zGG f a) (zGG f b) x y z) := z_upA (g := zG) (z_cpyG0 e1 e2 e3 h1 h2 h3)
theorem z_cpyH {f : Nat → Nat → Option Nat} {a b : Nat} {sp dp n : Int32} {x y z : Int} (e1 : sp.toInt = x) (e2 : dp.toInt = y) (e3 : n.toInt = z) (h1 : 0 ≤ x) (h2 : 0 ≤ y) (h3 : 0 ≤ z) : zHH (va_up f b (va_cpy (f a) (f b) sp.toNatClampNeg dp.toNatClampNeg n.toNatClampNeg)) = va_up (zHH f) b (zcpy (zHH f a) (zHH f b) x y z) := z_upA (g := zH) (z_cpyH0 e1 e2 e3 h1 h2 h3)
theorem z_cpl {sp n : Int32} {x z : Int} {N : Nat} (e1 : sp.toInt = x) (e3 : n.toInt = z) (h1 : 0 ≤ x) (h3 : 0 ≤ z) (h : x + z ≤ N) : sp.toNatClampNeg + n.toNatClampNeg ≤ N := by
  rw [z_tcn e1, z_tcn e3]; omega
theorem z_nn2 {v : Int32} {x : Int} (e : v.toInt = x) (h : 0 ≤ x) : ¬ v < 0 := z_nn (by rw [e]; exact h)
def zTab (g : Nat → Int32) : Int → Int := fun i => (g i.toNat).toInt
def zTabL (g : Nat → Int64) : Int → Int := fun i => (g i.toNat).toInt
theorem z_tab {g : Nat → Int32} {i : Int32} {x : Int} (e : i.toInt = x) : (g i.toNatClampNeg).toInt = zTab g x := by rw [z_tcn e]; rfl
theorem z_tabL {g : Nat → Int64} {i : Int32} {x : Int} (e : i.toInt = x) : (g i.toNatClampNeg).toInt = zTabL g x := by rw [z_tcn e]; rfl
theorem z_hel {f : Nat → Nat → Option Nat} {b : Nat} {sp n : Int32} {x z : Int} {P : Nat → Prop} (e1 : sp.toInt = x) (e3 : n.toInt = z) (h1 : 0 ≤ x) (h3 : 0 ≤ z) (h : ∀ i : Int, 0 ≤ i → i < z → ∀ y : Nat, zHH f b (x + i) = some y → P y) : ∀ i : Nat, i < n.toNatClampNeg → ∀ y : Nat, f b (sp.toNatClampNeg + i) = some y → P y := by
  intro i hi y hy
  rw [z_tcn e3] at hi
  rw [z_tcn e1] at hy
  refine h i (by omega) (by omega) y ?_
  unfold zHH zH
  rw [if_pos (by omega), show (x + (i : Int)).toNat = x.toNat + i by omega]
  exact hy
theorem z_nIf {P : Prop} {h : Decidable P} {n : Nat} (hr : zR (if P then ((n : Nat) : Int) else 0)) : (nI (if P then n else 0)).toInt = if P then ((n : Nat) : Int) else 0 := by
  by_cases hp : P
  · rw [if_pos hp] at hr ⊢; rw [if_pos hp]; exact z_nIt (by unfold zR at hr; omega)
  · rw [if_neg hp, if_neg hp]; rfl
theorem va_T.no {ty : FieldType} {t N : Nat} {f : Nat → Value} {A : Nat → Prop} {U : State} {H : Heap} (h : va_T ty t N f A U H) : ¬ A t := by
  obtain ⟨cell, h1, h2, h3, h4, h5, h6, h7⟩ := h
  exact h7
theorem z_mmax {a b : Int32} {x y : Int} (ea : a.toInt = x) (eb : b.toInt = y) : (if a < b then b else a).toInt = if x < y then y else x := by
  have : a < b ↔ x < y := by rw [Int32.lt_iff_toInt_lt, ea, eb]
  by_cases h : a < b
  · rw [if_pos h, if_pos (this.mp h), eb]
  · rw [if_neg h, if_neg (fun z => h (this.mpr z)), ea]
theorem z_mmin {a b : Int32} {x y : Int} (ea : a.toInt = x) (eb : b.toInt = y) : (if b < a then b else a).toInt = if y < x then y else x := by
  have : b < a ↔ y < x := by rw [Int32.lt_iff_toInt_lt, ea, eb]
  by_cases h : b < a
  · rw [if_pos h, if_pos (this.mp h), eb]
  · rw [if_neg h, if_neg (fun z => h (this.mpr z)), ea]
theorem zL_mmax {a b : Int64} {x y : Int} (ea : a.toInt = x) (eb : b.toInt = y) : (if b < a then a else b).toInt = if y < x then x else y := by
  have : b < a ↔ y < x := by rw [Int64.lt_iff_toInt_lt, ea, eb]
  by_cases h : b < a
  · rw [if_pos h, if_pos (this.mp h), ea]
  · rw [if_neg h, if_neg (fun z => h (this.mpr z)), eb]
theorem zL_mmin {a b : Int64} {x y : Int} (ea : a.toInt = x) (eb : b.toInt = y) : (if b < a then b else a).toInt = if y < x then y else x := by
  have : b < a ↔ y < x := by rw [Int64.lt_iff_toInt_lt, ea, eb]
  by_cases h : b < a
  · rw [if_pos h, if_pos (this.mp h), eb]
  · rw [if_neg h, if_neg (fun z => h (this.mpr z)), ea]
theorem z_mabs {a : Int32} {x : Int} (ea : a.toInt = x) (h : -2147483648 < x) : (if 0 ≤ a then a else 0 - a).toInt = if 0 ≤ x then x else -x := by
  have : 0 ≤ a ↔ 0 ≤ x := by rw [Int32.le_iff_toInt_le, ea]; rfl
  by_cases hp : 0 ≤ a
  · rw [if_pos hp, if_pos (this.mp hp), ea]
  · rw [if_neg hp, if_neg (fun z => hp (this.mpr z))]
    have hr := Int32.toInt_lt a
    have e := z_x (z_sub (z_m (rfl : (0 : Int32).toInt = 0)) (z_m ea)) (x := 0 - x) (by rw [ea] at hr; constructor <;> omega)
    rw [e]; omega
theorem zL_mabs {a : Int64} {x : Int} (ea : a.toInt = x) (h : -9223372036854775808 < x) : (if 0 < a then a else -a).toInt = if 0 < x then x else -x := by
  have : 0 < a ↔ 0 < x := by rw [Int64.lt_iff_toInt_lt, ea]; rfl
  by_cases hp : 0 < a
  · rw [if_pos hp, if_pos (this.mp hp), ea]
  · rw [if_neg hp, if_neg (fun z => hp (this.mpr z))]
    have hr := Int64.toInt_lt a
    exact zL_x (zL_neg (zL_m ea)) (by rw [ea] at hr; constructor <;> omega)
theorem zL_not {a : Int64} {x : Int} (e : a.toInt = x) : (a ^^^ (-1)).toInt = -x - 1 := by
  have hr := zL_rng a
  have : a ^^^ (-1) = -a - 1 := by
    have e1 : (-a - 1 : Int64) = ~~~a := by
      apply Int64.toBitVec_inj.mp
      show -a.toBitVec - 1#64 = ~~~a.toBitVec
      rw [BitVec.neg_eq_not_add]; exact BitVec.add_sub_cancel _ _
    rw [e1]
    apply Int64.toBitVec_inj.mp
    show a.toBitVec ^^^ (-1 : Int64).toBitVec = ~~~a.toBitVec
    have : (-1 : Int64).toBitVec = BitVec.allOnes 64 := by decide
    rw [this]
    exact BitVec.xor_allOnes
  rw [this]
  exact zL_x (zL_sub (zL_neg (zL_m e)) (b := 1) (y := 1) rfl) ⟨by omega, by omega⟩
