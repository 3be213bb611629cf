/-! ZBASE 3: a pool's maps as what is asked has them -/
set_option maxRecDepth 100000
def zFF (f : Nat → Nat → Int32) : Nat → Int → Int := fun a => zF (f a)
def zGG (f : Nat → Nat → Int64) : Nat → Int → Int := fun a => zG (f a)
def zH (f : Nat → Option Nat) : Int → Option Nat := fun j => if 0 ≤ j then f j.toNat else none
def zHH (f : Nat → Nat → Option Nat) : Nat → Int → Option Nat := fun a => zH (f a)
def zM (f : Nat → Int32) : Nat → Int := fun a => (f a).toInt
def zN (f : Nat → Int64) : Nat → Int := fun a => (f a).toInt
section ZP
variable {i : Int32} {x y : Int} {b : Nat}
theorem z_ldF {f : Nat → Nat → Int32} (e : i.toInt = x) (h : 0 ≤ x) : (f b i.toNatClampNeg).toInt = zFF f b x := z_ld e h
theorem z_ldG {f : Nat → Nat → Int64} (e : i.toInt = x) (h : 0 ≤ x) : (f b i.toNatClampNeg).toInt = zGG f b x := z_ldL e h
theorem z_ldH {f : Nat → Nat → Option Nat} (e : i.toInt = x) (h : 0 ≤ x) : f b i.toNatClampNeg = zHH f b x := by
  unfold zHH zH; rw [if_pos h, ← e]; rfl
theorem z_upA {α β : Type} {g : α → β} {f : Nat → α} {v : α} {w : β} (e : g v = w) : (fun a => g (va_up f b v a)) = va_up (fun a => g (f a)) b w := by
  funext a
  by_cases h : a = b
  · subst h; simp only [va_up_self]; exact e
  · simp only [va_up_ne _ _ h]
theorem z_upF {f : Nat → Nat → Int32} {v : Int32} (e : i.toInt = x) (h : 0 ≤ x) (ev : v.toInt = y) : zFF (va_up f b (upd (f b) i.toNatClampNeg v)) = va_up (zFF f) b (updI (zFF f b) x y) := z_upA (g := zF) (z_st e h ev)
theorem z_upG {f : Nat → Nat → Int64} {v : Int64} (e : i.toInt = x) (h : 0 ≤ x) (ev : v.toInt = y) : zGG (va_up f b (vp_updL (f b) i.toNatClampNeg v)) = va_up (zGG f) b (updI (zGG f b) x y) := z_upA (g := zG) (z_stL e h ev)
theorem z_stH {f : Nat → Option Nat} {r : Option Nat} (e : i.toInt = x) (h : 0 ≤ x) : zH (va_up f i.toNatClampNeg r) = updI (zH f) x r := by
  have ec : i.toNatClampNeg = x.toNat := by rw [← e]; rfl
  funext j
  unfold zH updI va_up
  rw [ec]
  by_cases h0 : 0 ≤ j
  · by_cases hj : j = x
    · subst hj; simp [h0]
    · have : ¬ j.toNat = x.toNat := by omega
      simp [h0, hj, this]
  · have : ¬ j = x := by omega
    simp [h0, this]
theorem z_upH {f : Nat → Nat → Option Nat} {r : Option Nat} (e : i.toInt = x) (h : 0 ≤ x) : zHH (va_up f b (va_up (f b) i.toNatClampNeg r)) = va_up (zHH f) b (updI (zHH f b) x r) := z_upA (g := zH) (z_stH e h)
theorem z_upM {f : Nat → Int32} {v : Int32} (e : v.toInt = y) : zM (va_up f b v) = va_up (zM f) b y := z_upA (g := Int32.toInt) e
theorem z_upN {f : Nat → Int64} {v : Int64} (e : v.toInt = y) : zN (va_up f b v) = va_up (zN f) b y := z_upA (g := Int64.toInt) e
theorem z_newF {f : Nat → Nat → Int32} : zFF (va_up f b (fun _ => 0)) = va_up (zFF f) b (fun _ => 0) := z_upA (g := zF) (by funext j; unfold zF; by_cases h : 0 ≤ j <;> simp [h])
theorem z_newG {f : Nat → Nat → Int64} : zGG (va_up f b (fun _ => 0)) = va_up (zGG f) b (fun _ => 0) := z_upA (g := zG) (by funext j; unfold zG; by_cases h : 0 ≤ j <;> simp [h])
theorem z_newH {f : Nat → Nat → Option Nat} : zHH (va_up f b (fun _ => none)) = va_up (zHH f) b (fun _ => none) := z_upA (g := zH) (by funext j; unfold zH; by_cases h : 0 ≤ j <;> simp [h])
theorem z_nlt1 {n : Nat} (h : (n : Int) < 2147483648) : n < 2147483648 := by omega
theorem z_nn {v : Int32} (h : 0 ≤ v.toInt) : ¬ v < 0 := fun q => by have := Int32.lt_iff_toInt_lt.mp q; rw [show (0 : Int32).toInt = 0 from rfl] at this; omega
theorem z_nB {v : Int32} (h : -128 ≤ v.toInt ∧ v.toInt < 128) : narrow .byte (.int v) = .int v := by
  have : v = v.toInt8.toInt32 := Int32.toInt_inj.mp (by rw [Int8.toInt_toInt32, Int32.toInt_toInt8]; exact (Int.bmod_eq_of_le (by omega) (by omega)).symm)
  rw [this]; exact pk_nb _
theorem z_fB {v : Int32} (h : -128 ≤ v.toInt ∧ v.toInt < 128) : fits .byte (.int v) = true := by
  have : v = v.toInt8.toInt32 := Int32.toInt_inj.mp (by rw [Int8.toInt_toInt32, Int32.toInt_toInt8]; exact (Int.bmod_eq_of_le (by omega) (by omega)).symm)
  rw [this]; exact pk_fb _
end ZP
