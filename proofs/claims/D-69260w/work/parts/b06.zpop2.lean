/-! ZPOP2: ones of 32 and 64 bits (printed) -/
/-! 32 bits -/
theorem zw_m32 (z : Int) : w32 z % 4294967296 = z % 4294967296 := by
  unfold w32
  have h := Int.bmod_emod (x := z) (m := 4294967296)
  exact h
theorem zw_r32 (z : Int) : zR (w32 z) := by
  have h1 := Int.le_bmod (x := z) (m := 4294967296) (by decide)
  have h2 := Int.bmod_lt (x := z) (m := 4294967296) (by decide)
  unfold w32 zR
  omega
theorem zb_w32 {z : Int} {k : Nat} (hk : k < 32) : zb (w32 z) k = zb z k := by
  rw [← zb_m (w := 32) hk, ← zb_m (x := z) (w := 32) hk]
  exact congrArg (fun y => zb y k) (zw_m32 z)
theorem zand_n32 {x : Int} {m : Nat} (hm : m < 2147483648) : zand x (m : Int) = (((x % 4294967296).toNat &&& m : Nat) : Int) := by
  have h1 := z_tn (a := Int32.ofInt x) rfl
  have h2 := z_tn (a := Int32.ofInt (m : Int)) rfl
  rw [Int.emod_eq_of_lt (by omega) (by omega)] at h2
  have e1 : (Int32.ofInt x).toBitVec.toNat = (x % 4294967296).toNat := by omega
  have e2 : (Int32.ofInt (m : Int)).toBitVec.toNat = m := by omega
  show (Int32.ofInt x &&& Int32.ofInt (m : Int)).toBitVec.toInt = _
  rw [Int32.toBitVec_and, BitVec.toInt_eq_toNat_cond, BitVec.toNat_and, e1, e2]
  have : (x % 4294967296).toNat &&& m ≤ m := Nat.and_le_right
  rw [if_pos (by omega)]
/-- the lowest one taken away -/
theorem zb_cut32 {x : Int} (hx : zR x) {k : Nat} (hk : k < 32) : zb (zand x (w32 (x - 1))) k = 1 ↔ zb x k = 1 ∧ ∃ j, j < k ∧ zb x j = 1 := by
  rw [zb_and32 hx (zw_r32 _) hk, zb_w32 hk]
  by_cases hz : ∃ j, j < 32 ∧ zb x j = 1
  · obtain ⟨t, ht, h1, h2, q, e⟩ := zb_low hz
    rw [zb_dec e]
    constructor
    · rintro ⟨a, b | b⟩
      · rw [h2 k b] at a; exact absurd a (by decide)
      · exact ⟨a, t, b.1, h1⟩
    · rintro ⟨a, j, b, c⟩
      refine ⟨a, Or.inr ⟨?_, a⟩⟩
      by_cases hj : j < t
      · rw [h2 j hj] at c; exact absurd c (by decide)
      · omega
  · constructor
    · exact fun a => absurd ⟨k, hk, a.1⟩ hz
    · exact fun a => absurd ⟨k, hk, a.1⟩ hz
theorem zb_032 {x : Int} (hx : zR x) (h : ∀ k, k < 32 → zb x k = 0) : x = 0 :=
  zb_ext32 hx (by decide) (fun k hk => by rw [h k hk, zb_zero])
theorem zpop32_a {x : Int} : ∃ h : Nat → Nat, (∀ i, h i ≤ 8) ∧ ((zpS h 4 : Nat) : Int) = cntI (fun i => zb x i.toNat = 1) 32 ∧
    ∃ N1 N2 : Nat, w32 (x - zand ((x % 4294967296) / 2) 1431655765) % 4294967296 = N1 ∧ (w32 (zand (N1 : Int) 858993459 + zand ((N1 : Int) / 4) 858993459)) = N2 ∧ zand (w32 ((N2 : Int) + (N2 : Int) / 16)) 252645135 = ((zpV 256 h 4 : Nat) : Int) := by
  have hU : (x % 4294967296).toNat < 2 ^ 32 := by omega
  have eU := zpV_dig (B := 2) (by decide) hU
  obtain ⟨h, h8, hs, N1, N2, s1, s2, ⟨g, g4, sg⟩, s3⟩ := zp_steps (n := 4) (b := fun i => (x % 4294967296).toNat / 2 ^ i % 2) (fun i => Nat.mod_lt _ (by decide)) (fun i hi => by
    rw [Nat.div_eq_of_lt (Nat.lt_of_lt_of_le hU (Nat.pow_le_pow_right (by decide) hi))])
  have eU : zpV 2 (fun i => (x % 4294967296).toNat / 2 ^ i % 2) (2 * (2 * (2 * 4))) = (x % 4294967296).toNat := eU
  rw [eU] at s1
  have m5 : zpV 4 (fun _ => 1) (2 * (2 * 4)) = 1431655765 := by decide
  have m3 : zpV 16 (fun _ => 3) (2 * 4) = 858993459 := by decide
  have mf : zpV 256 (fun _ => 15) 4 = 252645135 := by decide
  rw [m5] at s1
  rw [m3] at s2
  rw [mf] at s3
  have lN1 : N1 ≤ (x % 4294967296).toNat := by omega
  have lN2 := zpV_le g4 (B := 16) (2 * 4)
  rw [← sg, show zpV 16 (fun _ => 4) (2 * 4) = 1145324612 by decide] at lN2
  refine ⟨h, h8, ?_, N1, N2, ?_, ?_, ?_⟩
  · rw [hs]; exact (cnt_zpS x 32 32 (Nat.le_refl _)).symm
  · rw [show (1431655765 : Int) = ((1431655765 : Nat) : Int) from rfl, zand_n32 (by decide), zw_m32]
    have e : ((x % 4294967296) / 2 % 4294967296).toNat = (x % 4294967296).toNat / 2 := by omega
    rw [e]
    generalize (x % 4294967296).toNat / 2 &&& 1431655765 = A at s1 ⊢
    omega
  · rw [show (858993459 : Int) = ((858993459 : Nat) : Int) from rfl, zand_n32 (by decide), zand_n32 (by decide)]
    have e : ((N1 : Int) % 4294967296).toNat = N1 := by omega
    have e' : ((N1 : Int) / 4 % 4294967296).toNat = N1 / 4 := by omega
    rw [e, e', ← Int.natCast_add, ← s2]
    exact w32_id (by unfold zR; omega)
  · rw [show (252645135 : Int) = ((252645135 : Nat) : Int) from rfl, zand_n32 (by decide), zw_m32]
    have e : (((N2 : Int) + (N2 : Int) / 16) % 4294967296).toNat = N2 + N2 / 16 := by omega
    rw [e, s3]
/-! 64 bits -/
theorem zw_m64 (z : Int) : w64 z % 18446744073709551616 = z % 18446744073709551616 := by
  unfold w64
  have h := Int.bmod_emod (x := z) (m := 18446744073709551616)
  exact h
theorem zw_r64 (z : Int) : zL (w64 z) := by
  have h1 := Int.le_bmod (x := z) (m := 18446744073709551616) (by decide)
  have h2 := Int.bmod_lt (x := z) (m := 18446744073709551616) (by decide)
  unfold w64 zL
  omega
theorem zb_w64 {z : Int} {k : Nat} (hk : k < 64) : zb (w64 z) k = zb z k := by
  rw [← zb_m (w := 64) hk, ← zb_m (x := z) (w := 64) hk]
  exact congrArg (fun y => zb y k) (zw_m64 z)
theorem zand_n64 {x : Int} {m : Nat} (hm : m < 9223372036854775808) : zLand x (m : Int) = (((x % 18446744073709551616).toNat &&& m : Nat) : Int) := by
  have h1 := zL_tn (a := Int64.ofInt x) rfl
  have h2 := zL_tn (a := Int64.ofInt (m : Int)) rfl
  rw [Int.emod_eq_of_lt (by omega) (by omega)] at h2
  have e1 : (Int64.ofInt x).toBitVec.toNat = (x % 18446744073709551616).toNat := by omega
  have e2 : (Int64.ofInt (m : Int)).toBitVec.toNat = m := by omega
  show (Int64.ofInt x &&& Int64.ofInt (m : Int)).toBitVec.toInt = _
  rw [Int64.toBitVec_and, BitVec.toInt_eq_toNat_cond, BitVec.toNat_and, e1, e2]
  have : (x % 18446744073709551616).toNat &&& m ≤ m := Nat.and_le_right
  rw [if_pos (by omega)]
/-- the lowest one taken away -/
theorem zb_cut64 {x : Int} (hx : zL x) {k : Nat} (hk : k < 64) : zb (zLand x (w64 (x - 1))) k = 1 ↔ zb x k = 1 ∧ ∃ j, j < k ∧ zb x j = 1 := by
  rw [zb_and64 hx (zw_r64 _) hk, zb_w64 hk]
  by_cases hz : ∃ j, j < 64 ∧ zb x j = 1
  · obtain ⟨t, ht, h1, h2, q, e⟩ := zb_low hz
    rw [zb_dec e]
    constructor
    · rintro ⟨a, b | b⟩
      · rw [h2 k b] at a; exact absurd a (by decide)
      · exact ⟨a, t, b.1, h1⟩
    · rintro ⟨a, j, b, c⟩
      refine ⟨a, Or.inr ⟨?_, a⟩⟩
      by_cases hj : j < t
      · rw [h2 j hj] at c; exact absurd c (by decide)
      · omega
  · constructor
    · exact fun a => absurd ⟨k, hk, a.1⟩ hz
    · exact fun a => absurd ⟨k, hk, a.1⟩ hz
theorem zb_064 {x : Int} (hx : zL x) (h : ∀ k, k < 64 → zb x k = 0) : x = 0 :=
  zb_ext64 hx (by decide) (fun k hk => by rw [h k hk, zb_zero])
theorem zpop64_a {x : Int} : ∃ h : Nat → Nat, (∀ i, h i ≤ 8) ∧ ((zpS h 8 : Nat) : Int) = cntI (fun i => zb x i.toNat = 1) 64 ∧
    ∃ N1 N2 : Nat, w64 (x - zLand ((x % 18446744073709551616) / 2) 6148914691236517205) % 18446744073709551616 = N1 ∧ (w64 (zLand (N1 : Int) 3689348814741910323 + zLand ((N1 : Int) / 4) 3689348814741910323)) = N2 ∧ zLand (w64 ((N2 : Int) + (N2 : Int) / 16)) 1085102592571150095 = ((zpV 256 h 8 : Nat) : Int) := by
  have hU : (x % 18446744073709551616).toNat < 2 ^ 64 := by omega
  have eU := zpV_dig (B := 2) (by decide) hU
  obtain ⟨h, h8, hs, N1, N2, s1, s2, ⟨g, g4, sg⟩, s3⟩ := zp_steps (n := 8) (b := fun i => (x % 18446744073709551616).toNat / 2 ^ i % 2) (fun i => Nat.mod_lt _ (by decide)) (fun i hi => by
    rw [Nat.div_eq_of_lt (Nat.lt_of_lt_of_le hU (Nat.pow_le_pow_right (by decide) hi))])
  have eU : zpV 2 (fun i => (x % 18446744073709551616).toNat / 2 ^ i % 2) (2 * (2 * (2 * 8))) = (x % 18446744073709551616).toNat := eU
  rw [eU] at s1
  have m5 : zpV 4 (fun _ => 1) (2 * (2 * 8)) = 6148914691236517205 := by decide
  have m3 : zpV 16 (fun _ => 3) (2 * 8) = 3689348814741910323 := by decide
  have mf : zpV 256 (fun _ => 15) 8 = 1085102592571150095 := by decide
  rw [m5] at s1
  rw [m3] at s2
  rw [mf] at s3
  have lN1 : N1 ≤ (x % 18446744073709551616).toNat := by omega
  have lN2 := zpV_le g4 (B := 16) (2 * 8)
  rw [← sg, show zpV 16 (fun _ => 4) (2 * 8) = 4919131752989213764 by decide] at lN2
  refine ⟨h, h8, ?_, N1, N2, ?_, ?_, ?_⟩
  · rw [hs]; exact (cnt_zpS x 64 64 (Nat.le_refl _)).symm
  · rw [show (6148914691236517205 : Int) = ((6148914691236517205 : Nat) : Int) from rfl, zand_n64 (by decide), zw_m64]
    have e : ((x % 18446744073709551616) / 2 % 18446744073709551616).toNat = (x % 18446744073709551616).toNat / 2 := by omega
    rw [e]
    generalize (x % 18446744073709551616).toNat / 2 &&& 6148914691236517205 = A at s1 ⊢
    omega
  · rw [show (3689348814741910323 : Int) = ((3689348814741910323 : Nat) : Int) from rfl, zand_n64 (by decide), zand_n64 (by decide)]
    have e : ((N1 : Int) % 18446744073709551616).toNat = N1 := by omega
    have e' : ((N1 : Int) / 4 % 18446744073709551616).toNat = N1 / 4 := by omega
    rw [e, e', ← Int.natCast_add, ← s2]
    exact w64_id (by unfold zL; omega)
  · rw [show (1085102592571150095 : Int) = ((1085102592571150095 : Nat) : Int) from rfl, zand_n64 (by decide), zw_m64]
    have e : (((N2 : Int) + (N2 : Int) / 16) % 18446744073709551616).toNat = N2 + N2 / 16 := by omega
    rw [e, s3]
theorem zpop32 {x : Int} {P : Int → Prop} (hp : P (cntI (fun i => zb x i.toNat = 1) 32)) : ∀ a : Int, a = w32 (x - (zand ((x % 4294967296) / 2) 1431655765)) → (∀ b : Int, b = w32 ((zand a 858993459) + (zand ((a % 4294967296) / 4) 858993459)) → (∀ c : Int, c = zand (w32 (b + ((b % 4294967296) / 16))) 252645135 → (∀ d : Int, d = w32 (c + ((c % 4294967296) / 256)) → (∀ e : Int, e = w32 (d + ((d % 4294967296) / 65536)) → P (e % 64))))) := by
  obtain ⟨h, h8, hs, N1, N2, s1, s2, s3⟩ := zpop32_a (x := x)
  intro a ea b eb c ec d ed e ee
  rw [← ea] at s1
  have ma : ∀ m : Nat, m < 2147483648 → zand a (m : Int) = zand (N1 : Int) (m : Int) := fun m hm => by
    rw [zand_n32 hm, zand_n32 hm, s1]
    have : ((N1 : Int) % 4294967296).toNat = (N1 : Int).toNat := by omega
    rw [this]
  have ma := ma 858993459 (by decide)
  rw [show ((858993459 : Nat) : Int) = 858993459 from rfl] at ma
  rw [ma, s1, s2] at eb
  have rb : b % 4294967296 = N2 := by
    have := zw_r32 (zand (N1 : Int) 858993459 + zand ((N1 : Int) / 4) 858993459)
    rw [s2] at this
    unfold zR at this
    omega
  rw [eb] at rb
  rw [eb, rb, s3] at ec
  have q0 := h8 0; have q1 := h8 1; have q2 := h8 2; have q3 := h8 3
  have ev : zpV 256 h 4 = 256 * (256 * (256 * (256 * 0 + h 3) + h 2) + h 1) + h 0 := rfl
  have es : zpS h 4 = 0 + h 0 + h 1 + h 2 + h 3 := rfl
  rw [ev] at ec
  rw [es] at hs
  generalize h 0 = h0 at *
  generalize h 1 = h1 at *
  generalize h 2 = h2 at *
  generalize h 3 = h3 at *
  clear eb rb s1 s2 s3 ma ea es ev h8
  have ec2 : c = h0 + 256 * h1 + 65536 * h2 + 16777216 * h3 := by rw [ec]; omega
  have ed1 : c / 256 = h1 + 256 * h2 + 65536 * h3 := by omega
  have ed2 : d = c + (h1 + 256 * h2 + 65536 * h3) := by
    rw [ed, show c % 4294967296 = c by omega, ed1, w32_id (by unfold zR; omega)]
  have ee1 : d / 65536 = h2 + h3 + 256 * h3 := by omega
  have ee2 : e = d + (h2 + h3 + 256 * h3) := by
    rw [ee, show d % 4294967296 = d by omega, ee1, w32_id (by unfold zR; omega)]
  have r1 : e % 64 = (h0 : Int) + h1 + h2 + h3 := by omega
  rw [r1, show (h0 : Int) + h1 + h2 + h3 = cntI (fun i => zb x i.toNat = 1) 32 by rw [← hs]; omega]
  exact hp
theorem zpop64 {x : Int} {P : Int → Prop} (hp : P (cntI (fun i => zb x i.toNat = 1) 64)) : ∀ a : Int, a = w64 (x - (zLand ((x % 18446744073709551616) / 2) 6148914691236517205)) → (∀ b : Int, b = w64 ((zLand a 3689348814741910323) + (zLand ((a % 18446744073709551616) / 4) 3689348814741910323)) → (∀ c : Int, c = zLand (w64 (b + ((b % 18446744073709551616) / 16))) 1085102592571150095 → (∀ d : Int, d = w64 (c + ((c % 18446744073709551616) / 256)) → (∀ e : Int, e = w64 (d + ((d % 18446744073709551616) / 65536)) → (∀ f : Int, f = w64 (e + ((e % 18446744073709551616) / 4294967296)) → P ((w32 f) % 128)))))) := by
  obtain ⟨h, h8, hs, N1, N2, s1, s2, s3⟩ := zpop64_a (x := x)
  intro a ea b eb c ec d ed e ee f ef
  rw [← ea] at s1
  have ma : ∀ m : Nat, m < 9223372036854775808 → zLand a (m : Int) = zLand (N1 : Int) (m : Int) := fun m hm => by
    rw [zand_n64 hm, zand_n64 hm, s1]
    have : ((N1 : Int) % 18446744073709551616).toNat = (N1 : Int).toNat := by omega
    rw [this]
  have ma := ma 3689348814741910323 (by decide)
  rw [show ((3689348814741910323 : Nat) : Int) = 3689348814741910323 from rfl] at ma
  rw [ma, s1, s2] at eb
  have rb : b % 18446744073709551616 = N2 := by
    have := zw_r64 (zLand (N1 : Int) 3689348814741910323 + zLand ((N1 : Int) / 4) 3689348814741910323)
    rw [s2] at this
    unfold zL at this
    omega
  rw [eb] at rb
  rw [eb, rb, s3] at ec
  have z : ∀ i, h i ≤ 8 := h8
  have q0 := h8 0; have q1 := h8 1; have q2 := h8 2; have q3 := h8 3; have q4 := h8 4; have q5 := h8 5; have q6 := h8 6; have q7 := h8 7
  have ev : zpV 256 h 8 = 256 * (256 * (256 * (256 * (256 * (256 * (256 * (256 * 0 + h 7) + h 6) + h 5) + h 4) + h 3) + h 2) + h 1) + h 0 := rfl
  have es : zpS h 8 = 0 + h 0 + h 1 + h 2 + h 3 + h 4 + h 5 + h 6 + h 7 := rfl
  rw [ev] at ec
  rw [es] at hs
  generalize h 0 = h0 at *
  generalize h 1 = h1 at *
  generalize h 2 = h2 at *
  generalize h 3 = h3 at *
  generalize h 4 = h4 at *
  generalize h 5 = h5 at *
  generalize h 6 = h6 at *
  generalize h 7 = h7 at *
  clear eb rb s1 s2 s3 ma ea es ev h8 z
  obtain ⟨X6, e6⟩ : ∃ X : Int, X = h6 + 256 * h7 := ⟨_, rfl⟩
  obtain ⟨X5, e5⟩ : ∃ X : Int, X = h5 + 256 * X6 := ⟨_, rfl⟩
  obtain ⟨X4, e4⟩ : ∃ X : Int, X = h4 + 256 * X5 := ⟨_, rfl⟩
  obtain ⟨X3, e3⟩ : ∃ X : Int, X = h3 + 256 * X4 := ⟨_, rfl⟩
  obtain ⟨X2, e2⟩ : ∃ X : Int, X = h2 + 256 * X3 := ⟨_, rfl⟩
  obtain ⟨X1, e1⟩ : ∃ X : Int, X = h1 + 256 * X2 := ⟨_, rfl⟩
  have ec2 : c = h0 + 256 * X1 := by rw [ec]; omega
  have b1 : 0 ≤ X1 ∧ X1 ≤ 2260630401189896 := by omega
  have ed1 : c / 256 = X1 := by omega
  have ed2 : d = c + X1 := by
    rw [ed, show c % 18446744073709551616 = c by omega, ed1, w64_id (by unfold zL; omega)]
  have b2 : 0 ≤ X2 ∧ 0 ≤ X3 ∧ 0 ≤ X4 ∧ 0 ≤ X5 ∧ 0 ≤ X6 := by omega
  have ed3 : d = (h0 + h1) + 256 * (h1 + h2) + 65536 * (X2 + X3) := by omega
  have ee1 : d / 65536 = X2 + X3 := by omega
  have ee2 : e = d + (X2 + X3) := by
    rw [ee, show d % 18446744073709551616 = d by omega, ee1, w64_id (by unfold zL; omega)]
  have ee3 : e = (h0 + h1 + h2 + h3) + 256 * (h1 + h2 + h3 + h4) + 65536 * ((h2 + h3 + h4 + h5) + 256 * (h3 + h4 + h5 + h6)) + 4294967296 * (X4 + X5 + X6 + h7) := by omega
  have b3 : e < 9223372036854775808 - 4294967296 := by omega
  clear ed2 ed3 ed ee ed1 ec ec2 ee1 ee2
  have ef1 : e / 4294967296 = X4 + X5 + X6 + h7 := by omega
  have ef2 : f = e + (X4 + X5 + X6 + h7) := by
    rw [ef, show e % 18446744073709551616 = e by omega, ef1, w64_id (by unfold zL; omega)]
  have r1 : f % 128 = (h0 : Int) + h1 + h2 + h3 + h4 + h5 + h6 + h7 := by omega
  have r2 : (w32 f) % 128 = f % 128 := by have := zw_m32 f; omega
  rw [r2, r1, show (h0 : Int) + h1 + h2 + h3 + h4 + h5 + h6 + h7 = cntI (fun i => zb x i.toNat = 1) 64 by rw [← hs]; omega]
  exact hp
/-- zeros at the end -/
theorem zntz_mask {x : Int} (hx : zR x) {t : Nat} (ht : t < 32) {q : Int} (e : x = 2 ^ t * (2 * q + 1)) (h2 : ∀ j, j < t → zb x j = 0) (h1 : zb x t = 1) : zand (-x - 1) (w32 (x - 1)) = 2 ^ t - 1 := by
  have hr : zR (-x - 1) := by unfold zR at hx ⊢; omega
  have hp : zR (2 ^ t - 1) := by
    have : ∀ t : Nat, t < 32 → -2147483648 ≤ (2 : Int) ^ t - 1 ∧ (2 : Int) ^ t - 1 < 2147483648 := by decide
    exact this t ht
  refine zb_ext32 (zr_and32 _ _) hp (fun k hk => ?_)
  rw [zb_and32 hr (zw_r32 _) hk, zb_w32 hk, zb_not, zb_dec e, zb_ones]
  constructor
  · rintro ⟨a, b | b⟩
    · exact b
    · exact absurd b.2 a
  · intro a
    exact ⟨by rw [h2 k a]; decide, Or.inl a⟩
