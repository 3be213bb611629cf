/-! Digests, plain: bits of words -/
abbrev zU (x : Int) : Prop := 0 ≤ x ∧ x < 4294967296
/-- turned by n -/
def shR (x n : Int) : Int := (zLor (x / 2 ^ n.toNat) (zLshl x (32 - n))) % 4294967296
theorem zb_addp {x q : Int} {n k : Nat} (h : k < n) : zb (x + q * 2 ^ n) k = zb x k := by
  unfold zb
  have e : (2 : Int) ^ n = 2 * 2 ^ (n - k - 1) * 2 ^ k := by
    rw [← Int.pow_succ', ← Int.pow_add]; congr 1; omega
  have hp : (0 : Int) < 2 ^ k := Int.pow_pos (by decide)
  rw [e, ← Int.mul_assoc, Int.add_mul_ediv_right _ _ (Int.ne_of_gt hp), show q * (2 * 2 ^ (n - k - 1)) = 2 * (q * 2 ^ (n - k - 1)) by rw [← Int.mul_assoc, Int.mul_comm q 2, Int.mul_assoc]]
  generalize q * 2 ^ (n - k - 1) = r
  omega
theorem pw_le {n k : Nat} (h : n ≤ k) : (2 : Int) ^ n ≤ 2 ^ k := by
  obtain ⟨d, rfl⟩ := Nat.exists_eq_add_of_le h
  have a : (0 : Int) < 2 ^ n := Int.pow_pos (by decide)
  have b : (0 : Int) < 2 ^ d := Int.pow_pos (by decide)
  have c : (2 : Int) ^ n * 1 ≤ 2 ^ n * 2 ^ d := Int.mul_le_mul_of_nonneg_left (by omega) (by omega)
  rw [Int.pow_add]
  omega
theorem zb_hp {x : Int} {n k : Nat} (h0 : 0 ≤ x) (h1 : x < 2 ^ n) (h : n ≤ k) : zb x k = 0 := by
  unfold zb
  have : (2 : Int) ^ n ≤ 2 ^ k := pw_le h
  rw [Int.ediv_eq_zero_of_lt h0 (by omega)]; rfl
theorem w32_q (x : Int) : ∃ r, w32 x = x + r * 4294967296 := by
  unfold w32
  rw [Int.bmod_def]
  split
  · exact ⟨-(x / 4294967296), by omega⟩
  · exact ⟨-(x / 4294967296) - 1, by omega⟩
theorem zR_w32 (x : Int) : zR (w32 x) := by
  unfold w32 zR
  rw [Int.bmod_def]
  split <;> omega
theorem w32_c {x y : Int} (h : x % 4294967296 = y % 4294967296) : w32 x = w32 y := by
  have h' : x % ((4294967296 : Nat) : Int) = y % ((4294967296 : Nat) : Int) := h
  unfold w32
  rw [Int.bmod_def, Int.bmod_def, h']
theorem w32_u (x : Int) : w32 x % 4294967296 = x % 4294967296 := by
  obtain ⟨r, e⟩ := w32_q x
  rw [e]; omega
theorem w32_m {u : Int} (h : zU u) : w32 u % 4294967296 = u := by
  unfold zU at h
  rw [w32_u]; omega
theorem w32_mod (x : Int) : w32 (x % 4294967296) = w32 x := w32_c (by omega)
theorem w32_add (x y : Int) : w32 (w32 x + w32 y) = w32 (x + y) := w32_c (by
  have := w32_u x
  have := w32_u y
  omega)
theorem w32_i {u v : Int} (hu : zU u) (hv : zU v) (h : w32 u = w32 v) : u = v := by rw [← w32_m hu, ← w32_m hv, h]
theorem zb_md {x : Int} {k : Nat} (h : k < 32) : zb (x % 4294967296) k = zb x k := by
  rw [← zb_w32 (z := x) h, ← w32_mod x, zb_w32 h]
section
variable {u v : Int}
theorem zU_b (hu : zU u) {k : Nat} (h : 32 ≤ k) : zb u k = 0 := zb_hp hu.1 (show u < 2 ^ 32 from hu.2) h
theorem zU_L (hu : zU u) : zL u := by
  unfold zU at hu
  exact ⟨by omega, by omega⟩
theorem zU_md (x : Int) : zU (x % 4294967296) := ⟨by omega, by omega⟩
theorem zU_ex {x : Int} (hx : zL x) (h : ∀ k, 32 ≤ k → k < 64 → ¬ zb x k = 1) : zU x := by
  have e : x = x % 4294967296 := zb_ext64 hx ⟨by omega, by omega⟩ (fun k hk => by
    by_cases z : k < 32
    · rw [zb_md z]
    · rw [zU_b (zU_md x) (by omega)]
      exact ⟨fun w => absurd w (h k (by omega) hk), fun w => absurd w (by decide)⟩)
  rw [e]; exact zU_md x
theorem zU_xor (hu : zU u) (hv : zU v) : zU (zLxor u v) := zU_ex (zr_xor64 _ _) (fun k h0 h1 => by
  rw [zb_xor64 (zU_L hu) (zU_L hv) h1, zU_b hu h0, zU_b hv h0]
  exact fun w => w Iff.rfl)
theorem zU_and (hu : zU u) (hv : zU v) : zU (zLand u v) := zU_ex (zr_and64 _ _) (fun k h0 h1 => by
  rw [zb_and64 (zU_L hu) (zU_L hv) h1, zU_b hu h0]
  exact fun w => absurd w.1 (by decide))
theorem zxor_w (hu : zU u) (hv : zU v) : zxor (w32 u) (w32 v) = w32 (zLxor u v) := zb_ext32 (zr_xor32 _ _) (zR_w32 _) (fun k hk => by
  rw [zb_xor32 (zR_w32 _) (zR_w32 _) hk, zb_w32 hk, zb_w32 hk, zb_w32 hk, zb_xor64 (zU_L hu) (zU_L hv) (by omega)])
theorem zand_w (hu : zU u) (hv : zU v) : zand (w32 u) (w32 v) = w32 (zLand u v) := zb_ext32 (zr_and32 _ _) (zR_w32 _) (fun k hk => by
  rw [zb_and32 (zR_w32 _) (zR_w32 _) hk, zb_w32 hk, zb_w32 hk, zb_w32 hk, zb_and64 (zU_L hu) (zU_L hv) (by omega)])
theorem znot_w (u : Int) : -(w32 u) - 1 = w32 (4294967295 - u) := by
  have h1 := zR_w32 u
  have h2 := w32_u u
  have e : w32 (-(w32 u) - 1) = w32 (4294967295 - u) := w32_c (by omega)
  exact (w32_id (x := -(w32 u) - 1) ⟨by omega, by omega⟩).symm.trans e
theorem shR_U (u n : Int) : zU (shR u n) := zU_md _
theorem shR_2 (hu : zU u) : shR u 2 = (zLor (u / 4) (u * 1073741824)) % 4294967296 := by
  unfold zU at hu
  unfold shR
  have e1 : zLshl u (32 - 2) = u * 1073741824 := by
    have ea : (Int64.ofInt u).toInt = u := by rw [zL_of, w64_id ⟨by omega, by omega⟩]
    have := zL_shlw (a := Int64.ofInt u) (m := Int32.ofInt 30) (k := 30) (c := 1073741824) ea ⟨by decide, by decide, by decide⟩
    rw [w64_id ⟨by omega, by omega⟩] at this
    exact this
  rw [e1]; rfl
theorem zrot_2 (hu : zU u) : zor (zushr (w32 u) 2) (zshl (w32 u) (w32 (-2))) = w32 (shR u 2) := by
  have hw := zR_w32 u
  have ea : (Int32.ofInt (w32 u)).toInt = w32 u := by rw [z_of, w32_id hw]
  have e1 : zushr (w32 u) 2 = (w32 u % 4294967296) / 4 := z_ushr (a := Int32.ofInt (w32 u)) (m := Int32.ofInt 2) (k := 2) ea ⟨by decide, by decide, by decide⟩ (by decide)
  have e2 : zshl (w32 u) (w32 (-2)) = w32 (w32 u * 1073741824) := by
    have e3 : Int32.ofInt (w32 (-2)) &&& 31 = Int32.ofInt 30 &&& 31 := by decide
    unfold zshl
    rw [e3]
    exact z_shlw (a := Int32.ofInt (w32 u)) (m := Int32.ofInt 30) (k := 30) ea ⟨by decide, by decide, by decide⟩
  rw [shR_2 hu, e1, e2, w32_m hu]
  have hu' := hu
  unfold zU at hu'
  refine zb_ext32 (zr_or32 _ _) (zR_w32 _) (fun k hk => ?_)
  rw [zb_or32 ⟨by omega, by omega⟩ (zR_w32 _) hk, zb_w32 hk, zb_w32 hk, zb_md hk, zb_or64 ⟨by omega, by omega⟩ ⟨by omega, by omega⟩ (by omega)]
  have e4 : zb (w32 u * 1073741824) k = zb (u * 1073741824) k := by
    obtain ⟨r, er⟩ := w32_q u
    rw [er, show (u + r * 4294967296) * 1073741824 = u * 1073741824 + (r * 1073741824) * 2 ^ 32 by omega, zb_addp hk]
  rw [e4]
theorem shR_6 (hu : zU u) : shR u 6 = (zLor (u / 64) (u * 67108864)) % 4294967296 := by
  unfold zU at hu
  unfold shR
  have e1 : zLshl u (32 - 6) = u * 67108864 := by
    have ea : (Int64.ofInt u).toInt = u := by rw [zL_of, w64_id ⟨by omega, by omega⟩]
    have := zL_shlw (a := Int64.ofInt u) (m := Int32.ofInt 26) (k := 26) (c := 67108864) ea ⟨by decide, by decide, by decide⟩
    rw [w64_id ⟨by omega, by omega⟩] at this
    exact this
  rw [e1]; rfl
theorem zrot_6 (hu : zU u) : zor (zushr (w32 u) 6) (zshl (w32 u) (w32 (-6))) = w32 (shR u 6) := by
  have hw := zR_w32 u
  have ea : (Int32.ofInt (w32 u)).toInt = w32 u := by rw [z_of, w32_id hw]
  have e1 : zushr (w32 u) 6 = (w32 u % 4294967296) / 64 := z_ushr (a := Int32.ofInt (w32 u)) (m := Int32.ofInt 6) (k := 6) ea ⟨by decide, by decide, by decide⟩ (by decide)
  have e2 : zshl (w32 u) (w32 (-6)) = w32 (w32 u * 67108864) := by
    have e3 : Int32.ofInt (w32 (-6)) &&& 31 = Int32.ofInt 26 &&& 31 := by decide
    unfold zshl
    rw [e3]
    exact z_shlw (a := Int32.ofInt (w32 u)) (m := Int32.ofInt 26) (k := 26) ea ⟨by decide, by decide, by decide⟩
  rw [shR_6 hu, e1, e2, w32_m hu]
  have hu' := hu
  unfold zU at hu'
  refine zb_ext32 (zr_or32 _ _) (zR_w32 _) (fun k hk => ?_)
  rw [zb_or32 ⟨by omega, by omega⟩ (zR_w32 _) hk, zb_w32 hk, zb_w32 hk, zb_md hk, zb_or64 ⟨by omega, by omega⟩ ⟨by omega, by omega⟩ (by omega)]
  have e4 : zb (w32 u * 67108864) k = zb (u * 67108864) k := by
    obtain ⟨r, er⟩ := w32_q u
    rw [er, show (u + r * 4294967296) * 67108864 = u * 67108864 + (r * 67108864) * 2 ^ 32 by omega, zb_addp hk]
  rw [e4]
theorem shR_7 (hu : zU u) : shR u 7 = (zLor (u / 128) (u * 33554432)) % 4294967296 := by
  unfold zU at hu
  unfold shR
  have e1 : zLshl u (32 - 7) = u * 33554432 := by
    have ea : (Int64.ofInt u).toInt = u := by rw [zL_of, w64_id ⟨by omega, by omega⟩]
    have := zL_shlw (a := Int64.ofInt u) (m := Int32.ofInt 25) (k := 25) (c := 33554432) ea ⟨by decide, by decide, by decide⟩
    rw [w64_id ⟨by omega, by omega⟩] at this
    exact this
  rw [e1]; rfl
theorem zrot_7 (hu : zU u) : zor (zushr (w32 u) 7) (zshl (w32 u) (w32 (-7))) = w32 (shR u 7) := by
  have hw := zR_w32 u
  have ea : (Int32.ofInt (w32 u)).toInt = w32 u := by rw [z_of, w32_id hw]
  have e1 : zushr (w32 u) 7 = (w32 u % 4294967296) / 128 := z_ushr (a := Int32.ofInt (w32 u)) (m := Int32.ofInt 7) (k := 7) ea ⟨by decide, by decide, by decide⟩ (by decide)
  have e2 : zshl (w32 u) (w32 (-7)) = w32 (w32 u * 33554432) := by
    have e3 : Int32.ofInt (w32 (-7)) &&& 31 = Int32.ofInt 25 &&& 31 := by decide
    unfold zshl
    rw [e3]
    exact z_shlw (a := Int32.ofInt (w32 u)) (m := Int32.ofInt 25) (k := 25) ea ⟨by decide, by decide, by decide⟩
  rw [shR_7 hu, e1, e2, w32_m hu]
  have hu' := hu
  unfold zU at hu'
  refine zb_ext32 (zr_or32 _ _) (zR_w32 _) (fun k hk => ?_)
  rw [zb_or32 ⟨by omega, by omega⟩ (zR_w32 _) hk, zb_w32 hk, zb_w32 hk, zb_md hk, zb_or64 ⟨by omega, by omega⟩ ⟨by omega, by omega⟩ (by omega)]
  have e4 : zb (w32 u * 33554432) k = zb (u * 33554432) k := by
    obtain ⟨r, er⟩ := w32_q u
    rw [er, show (u + r * 4294967296) * 33554432 = u * 33554432 + (r * 33554432) * 2 ^ 32 by omega, zb_addp hk]
  rw [e4]
theorem shR_11 (hu : zU u) : shR u 11 = (zLor (u / 2048) (u * 2097152)) % 4294967296 := by
  unfold zU at hu
  unfold shR
  have e1 : zLshl u (32 - 11) = u * 2097152 := by
    have ea : (Int64.ofInt u).toInt = u := by rw [zL_of, w64_id ⟨by omega, by omega⟩]
    have := zL_shlw (a := Int64.ofInt u) (m := Int32.ofInt 21) (k := 21) (c := 2097152) ea ⟨by decide, by decide, by decide⟩
    rw [w64_id ⟨by omega, by omega⟩] at this
    exact this
  rw [e1]; rfl
theorem zrot_11 (hu : zU u) : zor (zushr (w32 u) 11) (zshl (w32 u) (w32 (-11))) = w32 (shR u 11) := by
  have hw := zR_w32 u
  have ea : (Int32.ofInt (w32 u)).toInt = w32 u := by rw [z_of, w32_id hw]
  have e1 : zushr (w32 u) 11 = (w32 u % 4294967296) / 2048 := z_ushr (a := Int32.ofInt (w32 u)) (m := Int32.ofInt 11) (k := 11) ea ⟨by decide, by decide, by decide⟩ (by decide)
  have e2 : zshl (w32 u) (w32 (-11)) = w32 (w32 u * 2097152) := by
    have e3 : Int32.ofInt (w32 (-11)) &&& 31 = Int32.ofInt 21 &&& 31 := by decide
    unfold zshl
    rw [e3]
    exact z_shlw (a := Int32.ofInt (w32 u)) (m := Int32.ofInt 21) (k := 21) ea ⟨by decide, by decide, by decide⟩
  rw [shR_11 hu, e1, e2, w32_m hu]
  have hu' := hu
  unfold zU at hu'
  refine zb_ext32 (zr_or32 _ _) (zR_w32 _) (fun k hk => ?_)
  rw [zb_or32 ⟨by omega, by omega⟩ (zR_w32 _) hk, zb_w32 hk, zb_w32 hk, zb_md hk, zb_or64 ⟨by omega, by omega⟩ ⟨by omega, by omega⟩ (by omega)]
  have e4 : zb (w32 u * 2097152) k = zb (u * 2097152) k := by
    obtain ⟨r, er⟩ := w32_q u
    rw [er, show (u + r * 4294967296) * 2097152 = u * 2097152 + (r * 2097152) * 2 ^ 32 by omega, zb_addp hk]
  rw [e4]
theorem shR_13 (hu : zU u) : shR u 13 = (zLor (u / 8192) (u * 524288)) % 4294967296 := by
  unfold zU at hu
  unfold shR
  have e1 : zLshl u (32 - 13) = u * 524288 := by
    have ea : (Int64.ofInt u).toInt = u := by rw [zL_of, w64_id ⟨by omega, by omega⟩]
    have := zL_shlw (a := Int64.ofInt u) (m := Int32.ofInt 19) (k := 19) (c := 524288) ea ⟨by decide, by decide, by decide⟩
    rw [w64_id ⟨by omega, by omega⟩] at this
    exact this
  rw [e1]; rfl
theorem zrot_13 (hu : zU u) : zor (zushr (w32 u) 13) (zshl (w32 u) (w32 (-13))) = w32 (shR u 13) := by
  have hw := zR_w32 u
  have ea : (Int32.ofInt (w32 u)).toInt = w32 u := by rw [z_of, w32_id hw]
  have e1 : zushr (w32 u) 13 = (w32 u % 4294967296) / 8192 := z_ushr (a := Int32.ofInt (w32 u)) (m := Int32.ofInt 13) (k := 13) ea ⟨by decide, by decide, by decide⟩ (by decide)
  have e2 : zshl (w32 u) (w32 (-13)) = w32 (w32 u * 524288) := by
    have e3 : Int32.ofInt (w32 (-13)) &&& 31 = Int32.ofInt 19 &&& 31 := by decide
    unfold zshl
    rw [e3]
    exact z_shlw (a := Int32.ofInt (w32 u)) (m := Int32.ofInt 19) (k := 19) ea ⟨by decide, by decide, by decide⟩
  rw [shR_13 hu, e1, e2, w32_m hu]
  have hu' := hu
  unfold zU at hu'
  refine zb_ext32 (zr_or32 _ _) (zR_w32 _) (fun k hk => ?_)
  rw [zb_or32 ⟨by omega, by omega⟩ (zR_w32 _) hk, zb_w32 hk, zb_w32 hk, zb_md hk, zb_or64 ⟨by omega, by omega⟩ ⟨by omega, by omega⟩ (by omega)]
  have e4 : zb (w32 u * 524288) k = zb (u * 524288) k := by
    obtain ⟨r, er⟩ := w32_q u
    rw [er, show (u + r * 4294967296) * 524288 = u * 524288 + (r * 524288) * 2 ^ 32 by omega, zb_addp hk]
  rw [e4]
theorem shR_17 (hu : zU u) : shR u 17 = (zLor (u / 131072) (u * 32768)) % 4294967296 := by
  unfold zU at hu
  unfold shR
  have e1 : zLshl u (32 - 17) = u * 32768 := by
    have ea : (Int64.ofInt u).toInt = u := by rw [zL_of, w64_id ⟨by omega, by omega⟩]
    have := zL_shlw (a := Int64.ofInt u) (m := Int32.ofInt 15) (k := 15) (c := 32768) ea ⟨by decide, by decide, by decide⟩
    rw [w64_id ⟨by omega, by omega⟩] at this
    exact this
  rw [e1]; rfl
theorem zrot_17 (hu : zU u) : zor (zushr (w32 u) 17) (zshl (w32 u) (w32 (-17))) = w32 (shR u 17) := by
  have hw := zR_w32 u
  have ea : (Int32.ofInt (w32 u)).toInt = w32 u := by rw [z_of, w32_id hw]
  have e1 : zushr (w32 u) 17 = (w32 u % 4294967296) / 131072 := z_ushr (a := Int32.ofInt (w32 u)) (m := Int32.ofInt 17) (k := 17) ea ⟨by decide, by decide, by decide⟩ (by decide)
  have e2 : zshl (w32 u) (w32 (-17)) = w32 (w32 u * 32768) := by
    have e3 : Int32.ofInt (w32 (-17)) &&& 31 = Int32.ofInt 15 &&& 31 := by decide
    unfold zshl
    rw [e3]
    exact z_shlw (a := Int32.ofInt (w32 u)) (m := Int32.ofInt 15) (k := 15) ea ⟨by decide, by decide, by decide⟩
  rw [shR_17 hu, e1, e2, w32_m hu]
  have hu' := hu
  unfold zU at hu'
  refine zb_ext32 (zr_or32 _ _) (zR_w32 _) (fun k hk => ?_)
  rw [zb_or32 ⟨by omega, by omega⟩ (zR_w32 _) hk, zb_w32 hk, zb_w32 hk, zb_md hk, zb_or64 ⟨by omega, by omega⟩ ⟨by omega, by omega⟩ (by omega)]
  have e4 : zb (w32 u * 32768) k = zb (u * 32768) k := by
    obtain ⟨r, er⟩ := w32_q u
    rw [er, show (u + r * 4294967296) * 32768 = u * 32768 + (r * 32768) * 2 ^ 32 by omega, zb_addp hk]
  rw [e4]
theorem shR_18 (hu : zU u) : shR u 18 = (zLor (u / 262144) (u * 16384)) % 4294967296 := by
  unfold zU at hu
  unfold shR
  have e1 : zLshl u (32 - 18) = u * 16384 := by
    have ea : (Int64.ofInt u).toInt = u := by rw [zL_of, w64_id ⟨by omega, by omega⟩]
    have := zL_shlw (a := Int64.ofInt u) (m := Int32.ofInt 14) (k := 14) (c := 16384) ea ⟨by decide, by decide, by decide⟩
    rw [w64_id ⟨by omega, by omega⟩] at this
    exact this
  rw [e1]; rfl
theorem zrot_18 (hu : zU u) : zor (zushr (w32 u) 18) (zshl (w32 u) (w32 (-18))) = w32 (shR u 18) := by
  have hw := zR_w32 u
  have ea : (Int32.ofInt (w32 u)).toInt = w32 u := by rw [z_of, w32_id hw]
  have e1 : zushr (w32 u) 18 = (w32 u % 4294967296) / 262144 := z_ushr (a := Int32.ofInt (w32 u)) (m := Int32.ofInt 18) (k := 18) ea ⟨by decide, by decide, by decide⟩ (by decide)
  have e2 : zshl (w32 u) (w32 (-18)) = w32 (w32 u * 16384) := by
    have e3 : Int32.ofInt (w32 (-18)) &&& 31 = Int32.ofInt 14 &&& 31 := by decide
    unfold zshl
    rw [e3]
    exact z_shlw (a := Int32.ofInt (w32 u)) (m := Int32.ofInt 14) (k := 14) ea ⟨by decide, by decide, by decide⟩
  rw [shR_18 hu, e1, e2, w32_m hu]
  have hu' := hu
  unfold zU at hu'
  refine zb_ext32 (zr_or32 _ _) (zR_w32 _) (fun k hk => ?_)
  rw [zb_or32 ⟨by omega, by omega⟩ (zR_w32 _) hk, zb_w32 hk, zb_w32 hk, zb_md hk, zb_or64 ⟨by omega, by omega⟩ ⟨by omega, by omega⟩ (by omega)]
  have e4 : zb (w32 u * 16384) k = zb (u * 16384) k := by
    obtain ⟨r, er⟩ := w32_q u
    rw [er, show (u + r * 4294967296) * 16384 = u * 16384 + (r * 16384) * 2 ^ 32 by omega, zb_addp hk]
  rw [e4]
theorem shR_19 (hu : zU u) : shR u 19 = (zLor (u / 524288) (u * 8192)) % 4294967296 := by
  unfold zU at hu
  unfold shR
  have e1 : zLshl u (32 - 19) = u * 8192 := by
    have ea : (Int64.ofInt u).toInt = u := by rw [zL_of, w64_id ⟨by omega, by omega⟩]
    have := zL_shlw (a := Int64.ofInt u) (m := Int32.ofInt 13) (k := 13) (c := 8192) ea ⟨by decide, by decide, by decide⟩
    rw [w64_id ⟨by omega, by omega⟩] at this
    exact this
  rw [e1]; rfl
theorem zrot_19 (hu : zU u) : zor (zushr (w32 u) 19) (zshl (w32 u) (w32 (-19))) = w32 (shR u 19) := by
  have hw := zR_w32 u
  have ea : (Int32.ofInt (w32 u)).toInt = w32 u := by rw [z_of, w32_id hw]
  have e1 : zushr (w32 u) 19 = (w32 u % 4294967296) / 524288 := z_ushr (a := Int32.ofInt (w32 u)) (m := Int32.ofInt 19) (k := 19) ea ⟨by decide, by decide, by decide⟩ (by decide)
  have e2 : zshl (w32 u) (w32 (-19)) = w32 (w32 u * 8192) := by
    have e3 : Int32.ofInt (w32 (-19)) &&& 31 = Int32.ofInt 13 &&& 31 := by decide
    unfold zshl
    rw [e3]
    exact z_shlw (a := Int32.ofInt (w32 u)) (m := Int32.ofInt 13) (k := 13) ea ⟨by decide, by decide, by decide⟩
  rw [shR_19 hu, e1, e2, w32_m hu]
  have hu' := hu
  unfold zU at hu'
  refine zb_ext32 (zr_or32 _ _) (zR_w32 _) (fun k hk => ?_)
  rw [zb_or32 ⟨by omega, by omega⟩ (zR_w32 _) hk, zb_w32 hk, zb_w32 hk, zb_md hk, zb_or64 ⟨by omega, by omega⟩ ⟨by omega, by omega⟩ (by omega)]
  have e4 : zb (w32 u * 8192) k = zb (u * 8192) k := by
    obtain ⟨r, er⟩ := w32_q u
    rw [er, show (u + r * 4294967296) * 8192 = u * 8192 + (r * 8192) * 2 ^ 32 by omega, zb_addp hk]
  rw [e4]
theorem shR_22 (hu : zU u) : shR u 22 = (zLor (u / 4194304) (u * 1024)) % 4294967296 := by
  unfold zU at hu
  unfold shR
  have e1 : zLshl u (32 - 22) = u * 1024 := by
    have ea : (Int64.ofInt u).toInt = u := by rw [zL_of, w64_id ⟨by omega, by omega⟩]
    have := zL_shlw (a := Int64.ofInt u) (m := Int32.ofInt 10) (k := 10) (c := 1024) ea ⟨by decide, by decide, by decide⟩
    rw [w64_id ⟨by omega, by omega⟩] at this
    exact this
  rw [e1]; rfl
theorem zrot_22 (hu : zU u) : zor (zushr (w32 u) 22) (zshl (w32 u) (w32 (-22))) = w32 (shR u 22) := by
  have hw := zR_w32 u
  have ea : (Int32.ofInt (w32 u)).toInt = w32 u := by rw [z_of, w32_id hw]
  have e1 : zushr (w32 u) 22 = (w32 u % 4294967296) / 4194304 := z_ushr (a := Int32.ofInt (w32 u)) (m := Int32.ofInt 22) (k := 22) ea ⟨by decide, by decide, by decide⟩ (by decide)
  have e2 : zshl (w32 u) (w32 (-22)) = w32 (w32 u * 1024) := by
    have e3 : Int32.ofInt (w32 (-22)) &&& 31 = Int32.ofInt 10 &&& 31 := by decide
    unfold zshl
    rw [e3]
    exact z_shlw (a := Int32.ofInt (w32 u)) (m := Int32.ofInt 10) (k := 10) ea ⟨by decide, by decide, by decide⟩
  rw [shR_22 hu, e1, e2, w32_m hu]
  have hu' := hu
  unfold zU at hu'
  refine zb_ext32 (zr_or32 _ _) (zR_w32 _) (fun k hk => ?_)
  rw [zb_or32 ⟨by omega, by omega⟩ (zR_w32 _) hk, zb_w32 hk, zb_w32 hk, zb_md hk, zb_or64 ⟨by omega, by omega⟩ ⟨by omega, by omega⟩ (by omega)]
  have e4 : zb (w32 u * 1024) k = zb (u * 1024) k := by
    obtain ⟨r, er⟩ := w32_q u
    rw [er, show (u + r * 4294967296) * 1024 = u * 1024 + (r * 1024) * 2 ^ 32 by omega, zb_addp hk]
  rw [e4]
theorem shR_25 (hu : zU u) : shR u 25 = (zLor (u / 33554432) (u * 128)) % 4294967296 := by
  unfold zU at hu
  unfold shR
  have e1 : zLshl u (32 - 25) = u * 128 := by
    have ea : (Int64.ofInt u).toInt = u := by rw [zL_of, w64_id ⟨by omega, by omega⟩]
    have := zL_shlw (a := Int64.ofInt u) (m := Int32.ofInt 7) (k := 7) (c := 128) ea ⟨by decide, by decide, by decide⟩
    rw [w64_id ⟨by omega, by omega⟩] at this
    exact this
  rw [e1]; rfl
theorem zrot_25 (hu : zU u) : zor (zushr (w32 u) 25) (zshl (w32 u) (w32 (-25))) = w32 (shR u 25) := by
  have hw := zR_w32 u
  have ea : (Int32.ofInt (w32 u)).toInt = w32 u := by rw [z_of, w32_id hw]
  have e1 : zushr (w32 u) 25 = (w32 u % 4294967296) / 33554432 := z_ushr (a := Int32.ofInt (w32 u)) (m := Int32.ofInt 25) (k := 25) ea ⟨by decide, by decide, by decide⟩ (by decide)
  have e2 : zshl (w32 u) (w32 (-25)) = w32 (w32 u * 128) := by
    have e3 : Int32.ofInt (w32 (-25)) &&& 31 = Int32.ofInt 7 &&& 31 := by decide
    unfold zshl
    rw [e3]
    exact z_shlw (a := Int32.ofInt (w32 u)) (m := Int32.ofInt 7) (k := 7) ea ⟨by decide, by decide, by decide⟩
  rw [shR_25 hu, e1, e2, w32_m hu]
  have hu' := hu
  unfold zU at hu'
  refine zb_ext32 (zr_or32 _ _) (zR_w32 _) (fun k hk => ?_)
  rw [zb_or32 ⟨by omega, by omega⟩ (zR_w32 _) hk, zb_w32 hk, zb_w32 hk, zb_md hk, zb_or64 ⟨by omega, by omega⟩ ⟨by omega, by omega⟩ (by omega)]
  have e4 : zb (w32 u * 128) k = zb (u * 128) k := by
    obtain ⟨r, er⟩ := w32_q u
    rw [er, show (u + r * 4294967296) * 128 = u * 128 + (r * 128) * 2 ^ 32 by omega, zb_addp hk]
  rw [e4]
end

/-! Digests, plain: what a digest is -/
def shK (t : Int) : Int := ([1116352408, 1899447441, 3049323471, 3921009573, 961987163, 1508970993, 2453635748, 2870763221, 3624381080, 310598401, 607225278, 1426881987, 1925078388, 2162078206, 2614888103, 3248222580, 3835390401, 4022224774, 264347078, 604807628, 770255983, 1249150122, 1555081692, 1996064986, 2554220882, 2821834349, 2952996808, 3210313671, 3336571891, 3584528711, 113926993, 338241895, 666307205, 773529912, 1294757372, 1396182291, 1695183700, 1986661051, 2177026350, 2456956037, 2730485921, 2820302411, 3259730800, 3345764771, 3516065817, 3600352804, 4094571909, 275423344, 430227734, 506948616, 659060556, 883997877, 958139571, 1322822218, 1537002063, 1747873779, 1955562222, 2024104815, 2227730452, 2361852424, 2428436474, 2756734187, 3204031479, 3329325298] : List Int).getD t.toNat 0
theorem shK_U (t : Int) : zU (shK t) := by
  have h : ∀ n : Nat, n < 64 → zU (([1116352408, 1899447441, 3049323471, 3921009573, 961987163, 1508970993, 2453635748, 2870763221, 3624381080, 310598401, 607225278, 1426881987, 1925078388, 2162078206, 2614888103, 3248222580, 3835390401, 4022224774, 264347078, 604807628, 770255983, 1249150122, 1555081692, 1996064986, 2554220882, 2821834349, 2952996808, 3210313671, 3336571891, 3584528711, 113926993, 338241895, 666307205, 773529912, 1294757372, 1396182291, 1695183700, 1986661051, 2177026350, 2456956037, 2730485921, 2820302411, 3259730800, 3345764771, 3516065817, 3600352804, 4094571909, 275423344, 430227734, 506948616, 659060556, 883997877, 958139571, 1322822218, 1537002063, 1747873779, 1955562222, 2024104815, 2227730452, 2361852424, 2428436474, 2756734187, 3204031479, 3329325298] : List Int).getD n 0) := by decide
  unfold shK
  by_cases z : t.toNat < 64
  · exact h _ z
  · rw [List.getD_eq_getElem?_getD, List.getElem?_eq_none (by simp only [List.length_cons, List.length_nil]; omega)]
    exact ⟨by decide, by decide⟩
abbrev sh8 : Type := Int × Int × Int × Int × Int × Int × Int × Int
def shWt (f : Int → Int) (t : Int) : Int := (((f (t - 16) + zLxor (zLxor (shR (f (t - 15)) 7) (shR (f (t - 15)) 18)) (f (t - 15) / 8)) + f (t - 7)) + zLxor (zLxor (shR (f (t - 2)) 17) (shR (f (t - 2)) 19)) (f (t - 2) / 1024)) % 4294967296
def shSc : Nat → Int → (Int → Int) → Int → Int
  | 0, _, f => f
  | p + 1, t, f => shSc p (t + 1) (updI f t (shWt f t))
def shX (e f g h k w : Int) : Int := (((h + zLxor (zLxor (shR e 6) (shR e 11)) (shR e 25)) + zLxor (zLand e f) (zLand (4294967295 - e) g)) + k) + w
def shY (a b c : Int) : Int := zLxor (zLxor (shR a 2) (shR a 13)) (shR a 22) + zLxor (zLxor (zLand a b) (zLand a c)) (zLand b c)
def shLp (sc : Int → Int) : Nat → Int → sh8 → sh8
  | 0, _, s => s
  | p + 1, t, (a, b, c, d, e, f, g, h) => shLp sc p (t + 1) ((shX e f g h (shK t) (sc t) + shY a b c) % 4294967296, a, b, c, (d + shX e f g h (shK t) (sc t)) % 4294967296, e, f, g)
def shN (wd : Int → Int) : sh8 → Int → Int
  | (a, b, c, d, e, f, g, h) => updI (updI (updI (updI (updI (updI (updI (updI wd 0 ((wd 0 + a) % 4294967296)) 1 ((wd 1 + b) % 4294967296)) 2 ((wd 2 + c) % 4294967296)) 3 ((wd 3 + d) % 4294967296)) 4 ((wd 4 + e) % 4294967296)) 5 ((wd 5 + f) % 4294967296)) 6 ((wd 6 + g) % 4294967296)) 7 ((wd 7 + h) % 4294967296)
def sh8w (wd : Int → Int) : sh8 := (wd 0, wd 1, wd 2, wd 3, wd 4, wd 5, wd 6, wd 7)
/-- four bytes from p on -/
def sh4 (m : Int → Int) (p : Int) : Int := 256 * (256 * (256 * (m p % 256) + m (p + 1) % 256) + m (p + 2) % 256) + m (p + 3) % 256
/-- a block of 64 bytes from p on -/
def shBk (wd m : Int → Int) (p : Int) : Int → Int := shN wd (shLp (shSc 48 16 (fun t => sh4 m (p + 4 * t))) 64 0 (sh8w wd))
def shW0 : Int → Int := updI (updI (updI (updI (updI (updI (updI (updI (fun _ => 0) 0 1779033703) 1 3144134277) 2 1013904242) 3 2773480762) 4 1359893119) 5 2600822924) 6 528734635) 7 1541459225
def shL (l : List Int) : Int → Int := fun i => l.getD i.toNat 0
def shAd (st : (Int → Int) × List Int) (b : Int) : (Int → Int) × List Int := if st.2.length = 63 then (shBk st.1 (shL (st.2 ++ [b])) 0, []) else (st.1, st.2 ++ [b])
def shRun (l : List Int) : (Int → Int) × List Int := l.foldl shAd (shW0, [])
def shZ (n : Nat) : Nat := (119 - n % 64) % 64
/-- a word's bytes -/
def shWd (u : Int) : List Int := [u / 16777216 % 256, u / 65536 % 256, u / 256 % 256, u % 256]
def shPad (l : List Int) : List Int := ((l ++ [128]) ++ List.replicate (shZ l.length) 0) ++ (shWd (8 * l.length / 4294967296) ++ shWd (8 * l.length))
/-- the digest of a list of bytes -/
def shDg (l : List Int) : Int → Int := (shRun (shPad l)).1
/-- octets of words -/
def shOc (wd : Int → Int) (i : Int) : Int := w8 (wd (i / 4) / 2 ^ (24 - 8 * (i % 4)).toNat)
section
variable {f g wd m m' sc sc' : Int → Int} {a b c d e h k p t u v x y : Int} {l l' r : List Int}
theorem shWt_U : zU (shWt f t) := zU_md _
theorem shWt_c (h : ∀ i, 0 ≤ i → i < t → f i = g i) (h16 : 16 ≤ t) : shWt f t = shWt g t := by
  unfold shWt
  rw [h _ (by omega) (by omega : t - 16 < t), h _ (by omega) (by omega : t - 15 < t), h _ (by omega) (by omega : t - 7 < t), h _ (by omega) (by omega : t - 2 < t)]
theorem shSc_c : ∀ (p : Nat) (t : Int) (f g : Int → Int), (∀ i, 0 ≤ i → i < t → f i = g i) → 16 ≤ t → ∀ i, 0 ≤ i → i < t + p → shSc p t f i = shSc p t g i
  | 0, _, _, _, h, _, i, i0, i1 => h i i0 (by omega)
  | p + 1, t, f, g, h, h16, i, i0, i1 => by
    rw [shSc, shSc]
    refine shSc_c p (t + 1) _ _ (fun j j0 j1 => ?_) (by omega) i i0 (by omega)
    by_cases z : j = t
    · rw [z, updI_s, updI_s, shWt_c h h16]
    · rw [updI_n z, updI_n z]; exact h j j0 (by omega)
theorem shSc_U : ∀ (p : Nat) (t : Int) (f : Int → Int), (∀ i, 0 ≤ i → i < t → zU (f i)) → ∀ i, 0 ≤ i → i < t + p → zU (shSc p t f i)
  | 0, _, _, h, i, i0, i1 => h i i0 (by omega)
  | p + 1, t, f, h, i, i0, i1 => by
    rw [shSc]
    refine shSc_U p (t + 1) _ (fun j j0 j1 => ?_) i i0 (by omega)
    by_cases z : j = t
    · rw [z, updI_s]; exact shWt_U
    · rw [updI_n z]; exact h j j0 (by omega)
theorem shLp_c : ∀ (p : Nat) (t : Int) (s : sh8), (∀ i, t ≤ i → i < t + p → sc i = sc' i) → shLp sc p t s = shLp sc' p t s
  | 0, _, _, _ => rfl
  | p + 1, t, (a, b, c, d, e, f, g, h), hc => by
    rw [shLp, shLp, hc t (by omega) (by omega)]
    exact shLp_c p (t + 1) _ (fun i i0 i1 => hc i (by omega) (by omega))
def shU8 : sh8 → Prop
  | (a, b, c, d, e, f, g, h) => zU a ∧ zU b ∧ zU c ∧ zU d ∧ zU e ∧ zU f ∧ zU g ∧ zU h
theorem shLp_U : ∀ (p : Nat) (t : Int) (s : sh8), shU8 s → shU8 (shLp sc p t s)
  | 0, _, _, h => h
  | p + 1, t, (a, b, c, d, e, f, g, h), ⟨ha, hb, hc, hd, he, hf, hg, hh⟩ => by
    rw [shLp]
    exact shLp_U p (t + 1) _ ⟨zU_md _, ha, hb, hc, zU_md _, he, hf, hg⟩
theorem sh4_U : zU (sh4 m p) := by
  unfold sh4 zU
  omega
theorem sh4_c (h : ∀ i, p ≤ i → i < p + 4 → m i % 256 = m' i % 256) : sh4 m p = sh4 m' p := by
  unfold sh4
  rw [h p (by omega) (by omega), h (p + 1) (by omega) (by omega), h (p + 2) (by omega) (by omega), h (p + 3) (by omega) (by omega)]
theorem shBk_c {q : Int} (h : ∀ i, 0 ≤ i → i < 64 → m (p + i) % 256 = m' (q + i) % 256) : shBk wd m p = shBk wd m' q := by
  unfold shBk
  rw [shLp_c (sc' := shSc 48 16 (fun t => sh4 m' (q + 4 * t))) 64 0 _ (fun i i0 i1 => shSc_c 48 16 _ _ (fun t t0 t1 => ?_) (by decide) i i0 (by omega))]
  have a0 := h (4 * t) (by omega) (by omega)
  have a1 := h (4 * t + 1) (by omega) (by omega)
  have a2 := h (4 * t + 2) (by omega) (by omega)
  have a3 := h (4 * t + 3) (by omega) (by omega)
  unfold sh4
  rw [a0, Int.add_assoc p, a1, Int.add_assoc p, a2, Int.add_assoc p, a3, Int.add_assoc q, Int.add_assoc q, Int.add_assoc q]
theorem shN_at {a b c d e f g h : Int} : shN wd (a, b, c, d, e, f, g, h) 0 = (wd 0 + a) % 4294967296 ∧ shN wd (a, b, c, d, e, f, g, h) 1 = (wd 1 + b) % 4294967296 ∧ shN wd (a, b, c, d, e, f, g, h) 2 = (wd 2 + c) % 4294967296 ∧ shN wd (a, b, c, d, e, f, g, h) 3 = (wd 3 + d) % 4294967296 ∧ shN wd (a, b, c, d, e, f, g, h) 4 = (wd 4 + e) % 4294967296 ∧ shN wd (a, b, c, d, e, f, g, h) 5 = (wd 5 + f) % 4294967296 ∧ shN wd (a, b, c, d, e, f, g, h) 6 = (wd 6 + g) % 4294967296 ∧ shN wd (a, b, c, d, e, f, g, h) 7 = (wd 7 + h) % 4294967296 := ⟨rfl, rfl, rfl, rfl, rfl, rfl, rfl, rfl⟩
theorem shN_U {s : sh8} : ∀ i, 0 ≤ i → i < 8 → zU (shN wd s i) := fun i i0 i1 => by
  obtain ⟨a, b, c, d, e, f, g, h⟩ := s
  obtain ⟨n0, n1, n2, n3, n4, n5, n6, n7⟩ := shN_at (wd := wd) (a := a) (b := b) (c := c) (d := d) (e := e) (f := f) (g := g) (h := h)
  have : i = 0 ∨ i = 1 ∨ i = 2 ∨ i = 3 ∨ i = 4 ∨ i = 5 ∨ i = 6 ∨ i = 7 := by omega
  rcases this with z | z | z | z | z | z | z | z
  · rw [z, n0]; exact zU_md _
  · rw [z, n1]; exact zU_md _
  · rw [z, n2]; exact zU_md _
  · rw [z, n3]; exact zU_md _
  · rw [z, n4]; exact zU_md _
  · rw [z, n5]; exact zU_md _
  · rw [z, n6]; exact zU_md _
  · rw [z, n7]; exact zU_md _
theorem shBk_U : ∀ i, 0 ≤ i → i < 8 → zU (shBk wd m p i) := shN_U
theorem shW0_U : ∀ i, 0 ≤ i → i < 8 → zU (shW0 i) := fun i i0 i1 => by
  have : i = 0 ∨ i = 1 ∨ i = 2 ∨ i = 3 ∨ i = 4 ∨ i = 5 ∨ i = 6 ∨ i = 7 := by omega
  rcases this with z | z | z | z | z | z | z | z <;> rw [z] <;> decide
theorem shRun_s : shRun (l ++ [b]) = shAd (shRun l) b := by
  unfold shRun
  rw [List.foldl_append]; rfl
theorem shFo_len : ∀ (r : List Int) (st : (Int → Int) × List Int), st.2.length < 64 → (∀ i, 0 ≤ i → i < 8 → zU (st.1 i)) → (r.foldl shAd st).2.length = (st.2.length + r.length) % 64 ∧ ∀ i, 0 ≤ i → i < 8 → zU ((r.foldl shAd st).1 i)
  | [], st, h, u => ⟨by rw [List.foldl_nil, List.length_nil]; omega, u⟩
  | b :: r, st, h, u => by
    rw [List.foldl_cons, List.length_cons]
    unfold shAd
    by_cases z : st.2.length = 63
    · rw [if_pos z]
      obtain ⟨h1, h2⟩ := shFo_len r (shBk st.1 (shL (st.2 ++ [b])) 0, []) (by show 0 < 64; decide) (show ∀ i, 0 ≤ i → i < 8 → zU (shBk st.1 (shL (st.2 ++ [b])) 0 i) from shBk_U)
      refine ⟨h1.trans ?_, h2⟩
      show (0 + r.length) % 64 = _
      omega
    · rw [if_neg z]
      have e : (st.2 ++ [b]).length = st.2.length + 1 := by rw [List.length_append, List.length_singleton]
      obtain ⟨h1, h2⟩ := shFo_len r (st.1, st.2 ++ [b]) (by show (st.2 ++ [b]).length < 64; omega) u
      refine ⟨h1.trans ?_, h2⟩
      show ((st.2 ++ [b]).length + r.length) % 64 = _
      rw [e]; omega
theorem shRun_len (l : List Int) : (shRun l).2.length = l.length % 64 ∧ ∀ i, 0 ≤ i → i < 8 → zU ((shRun l).1 i) := by
  obtain ⟨h1, h2⟩ := shFo_len l (shW0, []) (by show 0 < 64; decide) shW0_U
  refine ⟨h1.trans ?_, h2⟩
  show (0 + l.length) % 64 = _
  omega
theorem shDg_U : ∀ i, 0 ≤ i → i < 8 → zU (shDg l i) := (shRun_len _).2
theorem shPad_len : (shPad l).length % 64 = 0 ∧ (shPad l).length = l.length + 1 + shZ l.length + 8 := by
  have e : (shPad l).length = l.length + 1 + shZ l.length + 8 := by
    unfold shPad shWd
    simp only [List.length_append, List.length_replicate, List.length_cons, List.length_nil]
  rw [e]
  unfold shZ
  omega
/-- bytes that fill no block -/
theorem shRun_few : ∀ (r : List Int) (st : (Int → Int) × List Int), st.2.length + r.length < 64 → r.foldl shAd st = (st.1, st.2 ++ r)
  | [], st, _ => by rw [List.foldl_nil, List.append_nil]
  | b :: r, st, h => by
    rw [List.length_cons] at h
    rw [List.foldl_cons]
    have e : shAd st b = (st.1, st.2 ++ [b]) := by
      unfold shAd
      rw [if_neg (by omega)]
    rw [e, shRun_few r _ (by
      show (st.2 ++ [b]).length + r.length < 64
      rw [List.length_append, List.length_singleton]; omega)]
    show (st.1, st.2 ++ [b] ++ r) = _
    rw [List.append_assoc]; rfl
theorem shRun_64 (h : r.length = 64) : r.foldl shAd (wd, []) = (shBk wd (shL r) 0, []) := by
  have hne : r ≠ [] := fun e => by rw [e] at h; exact absurd h (by decide)
  obtain ⟨q, b, e⟩ : ∃ q b, r = q ++ [b] := ⟨r.dropLast, r.getLast hne, (List.dropLast_concat_getLast hne).symm⟩
  rw [e, List.length_append, List.length_singleton] at h
  rw [e, List.foldl_append, shRun_few q _ (by show 0 + q.length < 64; omega)]
  show shAd (wd, [] ++ q) b = _
  unfold shAd
  rw [List.nil_append, if_pos (show q.length = 63 by omega)]
/-- whole blocks, one after the other -/
def shBs (m : Int → Int) : Nat → Int → (Int → Int) → Int → Int
  | 0, _, w => w
  | p + 1, t, w => shBs m p (t + 64) (shBk w m t)
theorem shBs_run : ∀ (p : Nat) (t : Int) (w : Int → Int), (aF m t (64 * p)).foldl shAd (w, []) = (shBs m p t w, [])
  | 0, _, _ => rfl
  | p + 1, t, w => by
    rw [show 64 * (p + 1) = 64 + 64 * p by omega, aF_ap, List.foldl_append, shRun_64 (aF_len _ _), shBs, ← shBs_run p (t + 64)]
    have e : shBk w (shL (aF m t 64)) 0 = shBk w m t := shBk_c (fun i i0 i1 => by
      unfold shL
      rw [show (0 : Int) + i = i by omega, aF_get _ _ _ (by omega), show t + (i.toNat : Int) = t + i by omega])
    rw [e]; rfl
theorem shL_mod : ∀ (r : List Int) (st : (Int → Int) × List Int) (s2 : List Int), st.2.map (· % 256) = s2.map (· % 256) → ((r.map (· % 256)).foldl shAd (st.1, s2)).1 = (r.foldl shAd st).1
  | [], _, _, _ => rfl
  | b :: r, st, s2, h => by
    have hl : st.2.length = s2.length := by
      have := congrArg List.length h
      rw [List.length_map, List.length_map] at this
      exact this
    have h2 : (st.2 ++ [b]).map (· % 256) = (s2 ++ [b % 256]).map (· % 256) := by
      rw [List.map_append, List.map_append, h]
      show _ ++ [b % 256] = _ ++ [b % 256 % 256]
      rw [Int.emod_emod_of_dvd _ (Int.dvd_refl 256)]
    rw [List.map_cons, List.foldl_cons, List.foldl_cons]
    unfold shAd
    by_cases z : st.2.length = 63
    · rw [if_pos z, if_pos (show s2.length = 63 by omega)]
      have e : shBk st.1 (shL (s2 ++ [b % 256])) 0 = shBk st.1 (shL (st.2 ++ [b])) 0 := shBk_c (fun i i0 i1 => by
        have e2 := congrArg (fun q => q.getD (0 + i).toNat 0) h2
        try dsimp only at e2
        unfold shL
        have gm : ∀ (q : List Int) (n : Nat), (q.map (· % 256)).getD n 0 = q.getD n 0 % 256 := fun q n => by
          rw [List.getD_eq_getElem?_getD, List.getD_eq_getElem?_getD, List.getElem?_map]
          cases q[n]? <;> rfl
        rw [gm, gm] at e2
        exact e2.symm)
      show ((r.map (· % 256)).foldl shAd (shBk st.1 (shL (s2 ++ [b % 256])) 0, [])).1 = _
      rw [e]
      exact shL_mod r (shBk st.1 (shL (st.2 ++ [b])) 0, []) [] rfl
    · rw [if_neg z, if_neg (show ¬ s2.length = 63 by omega)]
      exact shL_mod r (st.1, st.2 ++ [b]) _ h2
theorem shRun_mod : (shRun (l.map (· % 256))).1 = (shRun l).1 := shL_mod l (shW0, []) [] rfl
end

/-! CanonNames, the reference (X47): digests -/
theorem w8_m (x : Int) : w8 x % 256 = x % 256 ∧ -128 ≤ w8 x ∧ w8 x < 128 := by
  unfold w8
  rw [Int.bmod_def]
  split <;> omega
section
variable {f g wd wd' ms ms' kc sc sc' oc w : Int → Int} {a b c d e h k p t u v x y n : Int} {l l' r : List Int}
def shE8 (f g : Int → Int) : Prop := ∀ i, 0 ≤ i → i < 8 → f i = g i
theorem shE8.sh (h : shE8 f g) : sh8w f = sh8w g := by
  unfold sh8w
  rw [h 0 (by decide) (by decide), h 1 (by decide) (by decide), h 2 (by decide) (by decide), h 3 (by decide) (by decide), h 4 (by decide) (by decide), h 5 (by decide) (by decide), h 6 (by decide) (by decide), h 7 (by decide) (by decide)]
theorem shBk_w (h : shE8 f g) : shE8 (shBk f ms p) (shBk g ms p) := fun i i0 i1 => by
  unfold shBk
  rw [h.sh]
  generalize shLp (shSc 48 16 (fun t => sh4 ms (p + 4 * t))) 64 0 (sh8w g) = s
  obtain ⟨a1, a2, a3, a4, a5, a6, a7, a8⟩ := s
  obtain ⟨n0, n1, n2, n3, n4, n5, n6, n7⟩ := shN_at (wd := f) (a := a1) (b := a2) (c := a3) (d := a4) (e := a5) (f := a6) (g := a7) (h := a8)
  obtain ⟨m0, m1, m2, m3, m4, m5, m6, m7⟩ := shN_at (wd := g) (a := a1) (b := a2) (c := a3) (d := a4) (e := a5) (f := a6) (g := a7) (h := a8)
  have : i = 0 ∨ i = 1 ∨ i = 2 ∨ i = 3 ∨ i = 4 ∨ i = 5 ∨ i = 6 ∨ i = 7 := by omega
  rcases this with z | z | z | z | z | z | z | z
  · rw [z, n0, m0, h 0 (by decide) (by decide)]
  · rw [z, n1, m1, h 1 (by decide) (by decide)]
  · rw [z, n2, m2, h 2 (by decide) (by decide)]
  · rw [z, n3, m3, h 3 (by decide) (by decide)]
  · rw [z, n4, m4, h 4 (by decide) (by decide)]
  · rw [z, n5, m5, h 5 (by decide) (by decide)]
  · rw [z, n6, m6, h 6 (by decide) (by decide)]
  · rw [z, n7, m7, h 7 (by decide) (by decide)]
theorem shBs_w : ∀ (q : Nat) (t : Int) (f g : Int → Int), shE8 f g → shE8 (shBs ms q t f) (shBs ms q t g)
  | 0, _, _, _, h => h
  | q + 1, t, _, _, h => shBs_w q (t + 64) _ _ (shBk_w h)
theorem shBs_c (hm : ∀ i, ms i % 256 = ms' i % 256) : ∀ (q : Nat) (t : Int) (f : Int → Int), shBs ms q t f = shBs ms' q t f
  | 0, _, _ => rfl
  | q + 1, t, f => by
    rw [shBs, shBs, shBk_c (m' := ms') (q := t) (fun i _ _ => hm _)]
    exact shBs_c hm q (t + 64) _
theorem shSc_e : ∀ (q : Nat) (t : Int) (f : Int → Int), 16 ≤ t → (∀ i, 0 ≤ i → i < t → shSc q t f i = f i) ∧ ∀ i, t ≤ i → i < t + q → shSc q t f i = shWt (shSc q t f) i
  | 0, _, _, _ => ⟨fun _ _ _ => rfl, fun i i0 i1 => by omega⟩
  | q + 1, t, f, h16 => by
    obtain ⟨h1, h2⟩ := shSc_e q (t + 1) (updI f t (shWt f t)) (by omega)
    have b : ∀ i, 0 ≤ i → i < t → shSc (q + 1) t f i = f i := fun i i0 i1 => by
      rw [shSc, h1 i i0 (by omega), updI_n (by omega)]
    refine ⟨b, fun i i0 i1 => ?_⟩
    by_cases z : i = t
    · rw [z, shWt_c b h16, shSc, h1 t (by omega) (by omega), updI_s]
    · rw [shSc]; exact h2 i (by omega) (by omega)
theorem T47_turned {post : Int → Prop} (hn : 0 ≤ n ∧ n < 33) (hp : post (shR x n)) : wpX47_turned post x n := ⟨⟨hn.1, by omega⟩, ⟨by omega, by omega⟩, hp⟩
theorem T47_b13 {K : Int → Prop} (hq : 0 ≤ p ∧ p + 64 ≤ 4400) (ht : 0 ≤ t ∧ t < 16) (hK : K (sh4 ms (p + 4 * t))) : ∃ fu : Nat, wX47_block_13 K p t ms fu 0 0 := by
  have z4 : zL (256 * (256 * (256 * (256 * 0 + ms (p + 4 * t + 0) % 256) + ms (p + 4 * t + 1) % 256) + ms (p + 4 * t + 2) % 256) + ms (p + 4 * t + 3) % 256) := ⟨by omega, by omega⟩
  refine ⟨5, ?_⟩
  rw [wX47_block_13]
  refine ⟨fun h => absurd h (by decide), fun _ => ⟨by omega, ⟨by omega, by omega⟩, fun y1 e1 => ⟨by decide, fun k1 f1 => ?_⟩⟩⟩
  rw [wX47_block_13, f1]
  refine ⟨fun h => absurd h (by decide), fun _ => ⟨by omega, ⟨by omega, by omega⟩, fun y2 e2 => ⟨by decide, fun k2 f2 => ?_⟩⟩⟩
  rw [wX47_block_13, f2]
  refine ⟨fun h => absurd h (by decide), fun _ => ⟨by omega, ⟨by omega, by omega⟩, fun y3 e3 => ⟨by decide, fun k3 f3 => ?_⟩⟩⟩
  rw [wX47_block_13, f3]
  refine ⟨fun h => absurd h (by decide), fun _ => ⟨by omega, ⟨by omega, by omega⟩, fun y4 e4 => ⟨by decide, fun k4 f4 => ?_⟩⟩⟩
  rw [wX47_block_13, f4]
  refine ⟨fun _ => ?_, fun h => absurd (by decide) h⟩
  have e : y4 = sh4 ms (p + 4 * t) := by
    unfold sh4
    rw [e4, e3, e2, e1, show p + 4 * t + 0 = p + 4 * t by omega, show p + 4 * t + (0 + 1) = p + 4 * t + 1 by omega, show p + 4 * t + (0 + 1 + 1) = p + 4 * t + 2 by omega, show p + 4 * t + (0 + 1 + 1 + 1) = p + 4 * t + 3 by omega]
    omega
  rw [e]; exact hK
theorem T47_b2 {K : (Int → Int) → Prop} (hq : 0 ≤ p ∧ p + 64 ≤ 4400) (hK : ∀ sc', (∀ i, 0 ≤ i → i < 16 → sc' i = sh4 ms (p + 4 * i)) → K sc') : ∃ fu : Nat, wX47_block_2 K p ms fu 0 sc := by
  refine wl2 (fun fu t sc => wX47_block_2 K p ms fu t sc) (fun t sc => (0 ≤ t ∧ t ≤ 16) ∧ ∀ i, 0 ≤ i → i < t → sc i = sh4 ms (p + 4 * i)) (fun t _ => (16 - t).toNat) ?_ 0 sc ⟨by omega, fun i i0 i1 => by omega⟩
  rintro t sc ⟨ht, hs⟩ fu ih
  rw [wX47_block_2]
  refine ⟨fun z => hK sc (fun i i0 i1 => hs i i0 (by omega)), fun z => T47_b13 hq ⟨ht.1, by omega⟩ ⟨by omega, fun sc2 e2 => ⟨by omega, fun t2 e3 => ?_⟩⟩⟩
  rw [e3]
  refine ih (t + 1) sc2 ⟨by omega, fun i i0 i1 => ?_⟩ (by omega)
  rw [e2]
  by_cases w : i = t
  · rw [w, updI_s]
  · rw [updI_n w]; exact hs i i0 (by omega)
theorem T47_b66 {K : (Int → Int) → Prop} (hs : ∀ i, 0 ≤ i → i < 16 → sc i = f i) (hK : ∀ sc', (∀ i, 0 ≤ i → i < 64 → sc' i = shSc 48 16 f i) → K sc') : ∃ fu : Nat, wX47_block_66 K fu 16 sc := by
  obtain ⟨g1, g2⟩ := shSc_e 48 16 f (by decide)
  refine wl2 (fun fu t sc => wX47_block_66 K fu t sc) (fun t sc => (16 ≤ t ∧ t ≤ 64) ∧ ∀ i, 0 ≤ i → i < t → sc i = shSc 48 16 f i) (fun t _ => (64 - t).toNat) ?_ 16 sc ⟨by omega, fun i i0 i1 => by rw [hs i i0 i1, g1 i i0 i1]⟩
  rintro t sc ⟨ht, hs⟩ fu ih
  rw [wX47_block_66]
  refine ⟨fun z => hK sc (fun i i0 i1 => hs i i0 (by omega)), fun z => ⟨by omega, fun x3 e3 => ⟨by omega, fun x5 e5 => T47_turned (by decide) (T47_turned (by decide) (fun x7 e7 => T47_turned (by decide) (T47_turned (by decide) (fun x9 e9 => ⟨by omega, by omega, fun v ev => ⟨by omega, fun sc2 es => ⟨by omega, fun t2 et => ?_⟩⟩⟩))))⟩⟩⟩
  have ew : v = shWt sc t := by
    rw [ev, e7, e9, e3, e5]; rfl
  rw [et]
  refine ih (t + 1) sc2 ⟨by omega, fun i i0 i1 => ?_⟩ (by omega)
  rw [es]
  by_cases w : i = t
  · rw [w, updI_s, ew, shWt_c hs ht.1]
    exact (g2 t ht.1 (by omega)).symm
  · rw [updI_n w]; exact hs i i0 (by omega)
theorem shX_b {e f g h k w : Int} (he : zU e) (hf : zU f) (hg : zU g) (hh : zU h) (hk : zU k) (hw : zU w) : 0 ≤ shX e f g h k w ∧ shX e f g h k w < 21474836480 := by
  have a1 := zU_xor (zU_xor (shR_U e 6) (shR_U e 11)) (shR_U e 25)
  have hn : zU (4294967295 - e) := by
    unfold zU at he ⊢; omega
  have a2 := zU_xor (zU_and he hf) (zU_and hn hg)
  unfold shX
  unfold zU at hh hk hw a1 a2
  omega
theorem shY_b {a b c : Int} (ha : zU a) (hb : zU b) (hc : zU c) : 0 ≤ shY a b c ∧ shY a b c < 8589934592 := by
  have a1 := zU_xor (zU_xor (shR_U a 2) (shR_U a 13)) (shR_U a 22)
  have a2 := zU_xor (zU_xor (zU_and ha hb) (zU_and ha hc)) (zU_and hb hc)
  unfold shY
  unfold zU at a1 a2
  omega
theorem T47_b243 {K : Int → Int → Int → Int → Int → Int → Int → Int → Prop} (hk : ∀ t, 0 ≤ t → t < 64 → kc t = shK t) (hs : ∀ i, 0 ≤ i → i < 64 → zU (sc i)) {S : sh8} (hK : ∀ a b c d e f g h, (a, b, c, d, e, f, g, h) = S → K a b c d e f g h) : ∀ (q : Nat) (t a b c d e f g h : Int), t + q = 64 → 0 ≤ t → shU8 (a, b, c, d, e, f, g, h) → shLp sc q t (a, b, c, d, e, f, g, h) = S → wX47_block_243 K kc sc (q + 1) a b c d e f g h t
  | 0, t, a, b, c, d, e, f, g, h, et, t0, _, eS => by
    rw [wX47_block_243]
    exact ⟨fun _ => hK _ _ _ _ _ _ _ _ eS, fun z => absurd (show 64 ≤ t by omega) z⟩
  | q + 1, t, a, b, c, d, e, f, g, h, et, t0, hu, eS => by
    obtain ⟨ha, hb, hc, hd, he, hf, hg, hh⟩ := hu
    have x1 := shX_b he hf hg hh (shK_U t) (hs t t0 (by omega))
    have y1 := shY_b ha hb hc
    rw [wX47_block_243]
    refine ⟨fun z => by omega, fun _ => T47_turned (by decide) (T47_turned (by decide) (T47_turned (by decide) ⟨by omega, ?_, fun x ex => T47_turned (by decide) (T47_turned (by decide) (T47_turned (by decide) ⟨?_, fun y ey x10 e10 x2 e2 => ⟨by omega, fun t2 et2 => ?_⟩⟩))⟩))⟩
    · rw [hk t t0 (by omega)]
      unfold shX at x1
      exact ⟨by omega, by omega⟩
    · unfold shY at y1
      exact ⟨by omega, by omega⟩
    · rw [hk t t0 (by omega)] at ex
      have ex' : x = shX e f g h (shK t) (sc t) := ex
      have ey' : y = shY a b c := ey
      rw [et2, e2, e10, ex', ey']
      exact T47_b243 hk hs hK q (t + 1) _ _ _ _ _ _ _ _ (by omega) (by omega) ⟨zU_md _, ha, hb, hc, zU_md _, he, hf, hg⟩ eS
theorem T47_block {post : (Int → Int) → (Int → Int) → Prop} (hk : ∀ t, 0 ≤ t → t < 64 → kc t = shK t) (hq : 0 ≤ p ∧ p + 64 ≤ 4400) (hw : ∀ i, 0 ≤ i → i < 8 → zU (wd i)) (hp : ∀ wd' sc', shE8 wd' (shBk wd ms p) → post wd' sc') : wpX47_block post kc ms wd sc p := by
  unfold wpX47_block
  refine T47_b2 hq (fun sc1 h1 => T47_b66 (f := fun t => sh4 ms (p + 4 * t)) h1 (fun sc2 h2 => ?_))
  intro a ea b eb c ec d ed e ee f ef g eg h eh
  have hs : ∀ i, 0 ≤ i → i < 64 → zU (sc2 i) := fun i i0 i1 => by
    rw [h2 i i0 i1]
    exact shSc_U 48 16 _ (fun _ _ _ => sh4_U) i i0 (by omega)
  have el : shLp sc2 64 0 (a, b, c, d, e, f, g, h) = shLp (shSc 48 16 (fun t => sh4 ms (p + 4 * t))) 64 0 (sh8w wd) := by
    rw [shLp_c 64 0 _ (fun i i0 i1 => h2 i i0 (by omega)), ea, eb, ec, ed, ee, ef, eg, eh]; rfl
  have hu : shU8 (a, b, c, d, e, f, g, h) := by
    rw [ea, eb, ec, ed, ee, ef, eg, eh]
    exact ⟨hw 0 (by decide) (by decide), hw 1 (by decide) (by decide), hw 2 (by decide) (by decide), hw 3 (by decide) (by decide), hw 4 (by decide) (by decide), hw 5 (by decide) (by decide), hw 6 (by decide) (by decide), hw 7 (by decide) (by decide)⟩
  refine ⟨65, T47_b243 hk hs (fun a' b' c' d' e' f' g' h' eS => ?_) 64 0 a b c d e f g h (by decide) (by decide) hu el⟩
  intro v0 ev0 w0 ew0 v1 ev1 w1 ew1 v2 ev2 w2 ew2 v3 ev3 w3 ew3 v4 ev4 w4 ew4 v5 ev5 w5 ew5 v6 ev6 w6 ew6 v7 ev7 w7 ew7
  refine hp w7 sc2 (fun i i0 i1 => ?_)
  unfold shBk
  rw [← eS]
  obtain ⟨n0, n1, n2, n3, n4, n5, n6, n7⟩ := shN_at (wd := wd) (a := a') (b := b') (c := c') (d := d') (e := e') (f := f') (g := g') (h := h')
  subst ew0
  subst ew1
  subst ew2
  subst ew3
  subst ew4
  subst ew5
  subst ew6
  subst ew7
  have : i = 0 ∨ i = 1 ∨ i = 2 ∨ i = 3 ∨ i = 4 ∨ i = 5 ∨ i = 6 ∨ i = 7 := by omega
  rcases this with z | z | z | z | z | z | z | z
  · rw [z, n0]; exact ev0
  · rw [z, n1]; exact ev1
  · rw [z, n2]; exact ev2
  · rw [z, n3]; exact ev3
  · rw [z, n4]; exact ev4
  · rw [z, n5]; exact ev5
  · rw [z, n6]; exact ev6
  · rw [z, n7]; exact ev7
theorem T47_d146 {K : (Int → Int) → (Int → Int) → Prop} (hk : ∀ t, 0 ≤ t → t < 64 → kc t = shK t) (hL : n ≤ 4400) {W : Int → Int} (hK : ∀ wd' sc', shE8 wd' W → K wd' sc') : ∀ (q : Nat) (t : Int) (wd sc : Int → Int), t + 64 * q = n → 0 ≤ t → (∀ i, 0 ≤ i → i < 8 → zU (wd i)) → shE8 (shBs ms q t wd) W → wX47_digestOf_146 K n kc ms (q + 1) t wd sc
  | 0, t, wd, sc, et, t0, _, eW => by
    rw [wX47_digestOf_146]
    exact ⟨fun _ => hK wd sc eW, fun z => absurd (show n ≤ t by omega) z⟩
  | q + 1, t, wd, sc, et, t0, hw, eW => by
    rw [wX47_digestOf_146]
    refine ⟨fun z => by omega, fun _ => T47_block hk (by omega) hw (fun wd' sc' e8 => ⟨by omega, fun t2 et2 => ?_⟩)⟩
    rw [et2]
    refine T47_d146 hk hL hK q (t + 64) wd' sc' (by omega) (by omega) (fun i i0 i1 => by rw [e8 i i0 i1]; exact shBk_U i i0 i1) (fun i i0 i1 => ?_)
    rw [shBs_w q (t + 64) _ _ e8 i i0 i1]
    exact eW i i0 i1
theorem aF_rep {α : Type} {f : Int → α} {v : α} : ∀ (m : Nat) (k : Int), (∀ i, k ≤ i → i < k + m → f i = v) → aF f k m = List.replicate m v
  | 0, _, _ => rfl
  | m + 1, k, h => by
    rw [aF, h k (by omega) (by omega), aF_rep m (k + 1) (fun i i0 i1 => h i (by omega) (by omega))]; rfl
theorem T47_digestOf {post : (Int → Int) → (Int → Int) → (Int → Int) → Prop} (hk : ∀ t, 0 ≤ t → t < 64 → kc t = shK t) (hn : 0 ≤ n ∧ n ≤ 4300) (hl : aF (fun i => ms i % 256) 0 n.toNat = l) (hp : ∀ ms' wd' sc', (∀ i, i < n → ms' i = ms i) → shE8 wd' (shDg l) → post ms' wd' sc') : wpX47_digestOf post kc ms wd sc n := by
  have ln : (l.length : Int) = n := by
    rw [← hl, aF_len]; omega
  obtain ⟨z, ez⟩ : ∃ z : Int, z = (119 - n % 64) % 64 := ⟨_, rfl⟩
  have ez2 : z = (shZ l.length : Nat) := by
    unfold shZ
    omega
  unfold wpX47_digestOf
  intro w0 e0 w1 e1 w2 e2 w3 e3 w4 e4 w5 e5 w6 e6 w7 e7
  have hW : shE8 w7 shW0 := fun i i0 i1 => by
    rw [e7, e6, e5, e4, e3, e2, e1, e0]
    have : i = 0 ∨ i = 1 ∨ i = 2 ∨ i = 3 ∨ i = 4 ∨ i = 5 ∨ i = 6 ∨ i = 7 := by omega
    rcases this with z | z | z | z | z | z | z | z <;> rw [z] <;> rfl
  clear e7 e6 e5 e4 e3 e2 e1 e0
  refine ⟨by omega, by decide, fun m1 em1 => ⟨by omega, fun x1 ex1 => ?_⟩⟩
  refine wl2 (fun fu x m => wX47_digestOf_87 _ fu x m) (fun x m => (n + 1 ≤ x ∧ x ≤ n + 1 + z) ∧ (∀ i, i < n → m i = ms i) ∧ m n = -128 ∧ ∀ i, n < i → i < x → m i = 0) (fun x _ => (n + 1 + z - x).toNat) ?_ x1 m1 ⟨by omega, fun i hi => by rw [em1, updI_n (by omega)], by rw [em1, updI_s], fun i i0 i1 => by omega⟩
  rintro x m ⟨hx, hm, h128, hz⟩ fu ih
  rw [wX47_digestOf_87]
  refine ⟨by omega, fun x56 => ?_, fun x56 => ⟨by omega, by decide, fun m2 em2 => ⟨by omega, fun x2 ex2 => ?_⟩⟩⟩
  · have ex : x = n + 1 + z := by omega
    refine wl3 (fun fu y k m => wX47_digestOf_112 _ n fu y k m) (fun y k m => (-1 ≤ k ∧ k ≤ 7) ∧ y = x + (7 - k) ∧ (∀ i, i < n → m i = ms i) ∧ m n = -128 ∧ (∀ i, n < i → i < x → m i = 0) ∧ ∀ i, 0 ≤ i → i < 7 - k → m (x + i) % 256 = (8 * n) / 2 ^ (8 * (7 - i)).toNat % 256) (fun _ k _ => (k + 1).toNat) ?_ x 7 m ⟨by omega, by omega, hm, h128, hz, fun i i0 i1 => by omega⟩
    rintro y k m ⟨hk7, ey, hm, h128, hz, h8⟩ fu2 ih2
    rw [wX47_digestOf_112]
    refine ⟨fun kn => ?_, fun kn => ⟨⟨by omega, by omega⟩, ⟨by omega, by omega⟩, by omega, fun v ev => ⟨by omega, ⟨by rw [ev]; exact (w8_m _).2.1, by rw [ev]; exact (w8_m _).2.2⟩, fun m3 em3 => ⟨by omega, fun y2 ey2 => ⟨by omega, fun k2 ek2 => ?_⟩⟩⟩⟩⟩
    · have ey8 : y = x + 8 := by omega
      have k1 : k = -1 := by omega
      rw [k1] at h8
      obtain ⟨q, eq⟩ : ∃ q : Nat, y = 64 * q := ⟨(y / 64).toNat, by omega⟩
      have hpad : aF (fun i => m i % 256) 0 (64 * q) = shPad l := by
        have en : 64 * q = ((n.toNat + 1) + shZ l.length) + 8 := by omega
        rw [en, aF_ap, aF_ap, aF_ap]
        unfold shPad
        have a1 : aF (fun i => m i % 256) 0 n.toNat = l := by
          rw [← hl]
          exact aF_c _ _ (fun i i0 i1 => by
            show m i % 256 = ms i % 256
            rw [hm i (by omega)])
        have a2 : aF (fun i => m i % 256) (0 + (n.toNat : Int)) 1 = [128] := by
          rw [show (0 : Int) + (n.toNat : Int) = n by omega]
          show [m n % 256] = [128]
          rw [h128]; rfl
        have a3 : aF (fun i => m i % 256) (0 + ((n.toNat + 1 : Nat) : Int)) (shZ l.length) = List.replicate (shZ l.length) 0 := aF_rep _ _ (fun i i0 i1 => by
          show m i % 256 = 0
          rw [hz i (by omega) (by omega)]; rfl)
        have a4 : aF (fun i => m i % 256) (0 + (((n.toNat + 1) + shZ l.length : Nat) : Int)) 8 = shWd (8 * l.length / 4294967296) ++ shWd (8 * l.length) := by
          have r : ∀ i : Int, 0 ≤ i → i < 8 → m (0 + (((n.toNat + 1) + shZ l.length : Nat) : Int) + i) % 256 = (8 * n) / 2 ^ (8 * (7 - i)).toNat % 256 := fun i i0 i1 => by
            rw [show (0 : Int) + (((n.toNat + 1) + shZ l.length : Nat) : Int) = x by omega]
            exact h8 i i0 (by omega)
          have r0 : _ = 8 * n / 72057594037927936 % 256 := r 0 (by decide) (by decide)
          have r1 : _ = 8 * n / 281474976710656 % 256 := r 1 (by decide) (by decide)
          have r2 : _ = 8 * n / 1099511627776 % 256 := r 2 (by decide) (by decide)
          have r3 : _ = 8 * n / 4294967296 % 256 := r 3 (by decide) (by decide)
          have r4 : _ = 8 * n / 16777216 % 256 := r 4 (by decide) (by decide)
          have r5 : _ = 8 * n / 65536 % 256 := r 5 (by decide) (by decide)
          have r6 : _ = 8 * n / 256 % 256 := r 6 (by decide) (by decide)
          have r7 : _ = 8 * n / 1 % 256 := r 7 (by decide) (by decide)
          generalize (0 : Int) + (((n.toNat + 1) + shZ l.length : Nat) : Int) = x' at r0 r1 r2 r3 r4 r5 r6 r7 ⊢
          rw [ln]
          show [m x' % 256, m (x' + 1) % 256, m (x' + 1 + 1) % 256, m (x' + 1 + 1 + 1) % 256, m (x' + 1 + 1 + 1 + 1) % 256, m (x' + 1 + 1 + 1 + 1 + 1) % 256, m (x' + 1 + 1 + 1 + 1 + 1 + 1) % 256, m (x' + 1 + 1 + 1 + 1 + 1 + 1 + 1) % 256] = _
          rw [show x' + 1 + 1 = x' + 2 by omega, show x' + 2 + 1 = x' + 3 by omega, show x' + 3 + 1 = x' + 4 by omega, show x' + 4 + 1 = x' + 5 by omega, show x' + 5 + 1 = x' + 6 by omega, show x' + 6 + 1 = x' + 7 by omega]
          rw [show x' + 0 = x' by omega] at r0
          rw [r0, r1, r2, r3, r4, r5, r6, r7]
          unfold shWd
          show _ = [8 * n / 4294967296 / 16777216 % 256, 8 * n / 4294967296 / 65536 % 256, 8 * n / 4294967296 / 256 % 256, 8 * n / 4294967296 % 256, 8 * n / 16777216 % 256, 8 * n / 65536 % 256, 8 * n / 256 % 256, 8 * n % 256]
          rw [show 8 * n / 72057594037927936 % 256 = 8 * n / 4294967296 / 16777216 % 256 by omega, show 8 * n / 281474976710656 % 256 = 8 * n / 4294967296 / 65536 % 256 by omega, show 8 * n / 1099511627776 % 256 = 8 * n / 4294967296 / 256 % 256 by omega, show 8 * n / 1 % 256 = 8 * n % 256 by omega]
        rw [a1, a2, a3, a4]
      refine ⟨q + 1, T47_d146 (W := shDg l) hk (by omega) (fun wd' sc' e8 => hp m wd' sc' hm e8) q 0 w7 sc (by omega) (by decide) (fun i i0 i1 => by rw [hW i i0 i1]; exact shW0_U i i0 i1) (fun i i0 i1 => ?_)⟩
      rw [shBs_w q 0 _ _ hW i i0 i1]
      unfold shDg shRun
      rw [← hpad, shBs_run q 0 shW0]
      show shBs m q 0 shW0 i = shBs (fun i => m i % 256) q 0 shW0 i
      rw [shBs_c (ms := m) (ms' := fun i => m i % 256) (fun i => by
        show m i % 256 = m i % 256 % 256
        omega)]
    · rw [ey2, ek2]
      have s : ∀ i, ¬ i = y → m3 i = m i := fun i h => by rw [em3, updI_n h]
      refine ih2 (y + 1) (k + -1) m3 ⟨by omega, by omega, fun i hi => by rw [s i (by omega)]; exact hm i hi, by rw [s n (by omega)]; exact h128, fun i i0 i1 => by rw [s i (by omega)]; exact hz i i0 i1, fun i i0 i1 => ?_⟩ (by omega)
      by_cases w : i = 7 - k
      · rw [w, show x + (7 - k) = y by omega, em3, updI_s, ev, (w8_m _).1, show 7 - (7 - k) = k by omega]
      · rw [s (x + i) (by omega)]; exact h8 i i0 (by omega)
  · rw [ex2]
    refine ih (x + 1) m2 ⟨by omega, fun i hi => by rw [em2, updI_n (by omega)]; exact hm i hi, by rw [em2, updI_n (by omega)]; exact h128, fun i i0 i1 => ?_⟩ (by omega)
    rw [em2]
    by_cases w : i = x
    · rw [w, updI_s]
    · rw [updI_n w]; exact hz i i0 (by omega)
theorem T47_octetsOf {post : (Int → Int) → Prop} (hp : ∀ oc', (∀ i, 0 ≤ i → i < 32 → oc' i = shOc wd i) → post oc') : wpX47_octetsOf post oc wd := by
  unfold wpX47_octetsOf
  refine wl2 (fun fu i oc => wX47_octetsOf_2 (fun oc' => post oc') wd fu i oc) (fun i oc => (0 ≤ i ∧ i ≤ 32) ∧ ∀ j, 0 ≤ j → j < i → oc j = shOc wd j) (fun i _ => (32 - i).toNat) ?_ 0 oc ⟨by omega, fun j j0 j1 => by omega⟩
  rintro i oc ⟨hi, ho⟩ fu ih
  rw [wX47_octetsOf_2]
  refine ⟨fun z => hp oc (fun j j0 j1 => ho j j0 (by omega)), fun z => ⟨by omega, by omega, ⟨by omega, by omega⟩, by omega, fun v ev => ⟨by omega, ⟨by rw [ev]; exact (w8_m _).2.1, by rw [ev]; exact (w8_m _).2.2⟩, fun oc2 eo => ⟨by omega, fun i2 ei => ?_⟩⟩⟩⟩
  rw [ei]
  refine ih (i + 1) oc2 ⟨by omega, fun j j0 j1 => ?_⟩ (by omega)
  rw [eo]
  by_cases w : j = i
  · rw [w, updI_s, ev]; rfl
  · rw [updI_n w]; exact ho j j0 (by omega)
/-- the message's bytes so far -/
def shMs (ms : Int → Int) (n : Int) (l : List Int) : Prop := 0 ≤ n ∧ aF (fun i => ms i % 256) 0 n.toNat = l
theorem shMs.add (h : shMs ms n l) (hv : v % 256 = b) : shMs (updI ms n v) (n + 1) (l ++ [b]) := by
  obtain ⟨h0, h1⟩ := h
  refine ⟨by omega, ?_⟩
  rw [show (n + 1).toNat = n.toNat + 1 by omega, aF_s, ← h1]
  have e1 : aF (fun i => updI ms n v i % 256) 0 n.toNat = aF (fun i => ms i % 256) 0 n.toNat := aF_c _ _ (fun i i0 i1 => by
    show updI ms n v i % 256 = ms i % 256
    rw [updI_n (by omega)])
  rw [e1]
  show _ ++ [updI ms n v (0 + (n.toNat : Int)) % 256] = _
  rw [show (0 : Int) + (n.toNat : Int) = n by omega, updI_s, hv]
theorem T47_say {post : (Int → Int) → Int → Prop} (hm : shMs ms n l) (hn : n < 4400) (hp : ∀ ms', shMs ms' (n + 1) (l ++ [x % 256]) → post ms' (n + 1)) : wpX47_say post ms n x := by
  unfold wpX47_say
  intro v ev
  refine ⟨⟨hm.1, hn⟩, ⟨by rw [ev]; exact (w8_m _).2.1, by rw [ev]; exact (w8_m _).2.2⟩, fun ms' em => ⟨⟨by have := hm.1; omega, by omega⟩, fun n' en => ?_⟩⟩
  rw [en, em]
  exact hp _ (hm.add (by rw [ev]; exact (w8_m _).1))
theorem w32_256 (x : Int) : w32 x % 256 = x % 256 := by
  have := w32_u x
  omega
theorem T47_sayNumber {post : (Int → Int) → Int → Prop} (hm : shMs ms n l) (hn : n + 4 ≤ 4400) (hp : ∀ ms', shMs ms' (n + 4) (l ++ shWd x) → post ms' (n + 4)) : wpX47_sayNumber post ms n x := by
  unfold wpX47_sayNumber
  have d3 : (w32 (8 * 3)).toNat = 24 := by decide
  have d2 : (w32 (8 * 2)).toNat = 16 := by decide
  have d1 : (w32 (8 * 1)).toNat = 8 := by decide
  have d0 : (w32 (8 * 0)).toNat = 0 := by decide
  refine ⟨5, ?_⟩
  rw [wX47_sayNumber_2]
  refine ⟨fun h => absurd h (by decide), fun _ => ⟨by decide, T47_say hm (by omega) (fun m1 h1 k1 e1 => ?_)⟩⟩
  rw [wX47_sayNumber_2, e1, show w32 (3 + -1) = 2 by decide]
  refine ⟨fun h => absurd h (by decide), fun _ => ⟨by decide, T47_say h1 (by omega) (fun m2 h2 k2 e2 => ?_)⟩⟩
  rw [wX47_sayNumber_2, e2, show w32 (2 + -1) = 1 by decide]
  refine ⟨fun h => absurd h (by decide), fun _ => ⟨by decide, T47_say h2 (by omega) (fun m3 h3 k3 e3 => ?_)⟩⟩
  rw [wX47_sayNumber_2, e3, show w32 (1 + -1) = 0 by decide]
  refine ⟨fun h => absurd h (by decide), fun _ => ⟨by decide, T47_say h3 (by omega) (fun m4 h4 k4 e4 => ?_)⟩⟩
  rw [wX47_sayNumber_2, e4, show w32 (0 + -1) = -1 by decide]
  refine ⟨fun _ => ?_, fun h => absurd (by decide) h⟩
  rw [d3, d2, d1, d0, w32_256, w32_256, w32_256, w32_256] at h4
  have el : (((l ++ [x / 2 ^ 24 % 256]) ++ [x / 2 ^ 16 % 256]) ++ [x / 2 ^ 8 % 256]) ++ [x / 2 ^ 0 % 256] = l ++ shWd x := by
    unfold shWd
    rw [List.append_assoc, List.append_assoc, List.append_assoc, show x / 2 ^ 0 % 256 = x % 256 by omega]; rfl
  rw [el, show n + 1 + 1 + 1 + 1 = n + 4 by omega] at h4
  rw [show n + 1 + 1 + 1 + 1 = n + 4 by omega]
  exact hp m4 h4
end

/-! CanonNames, plain: rows of bytes, sorted; hashes -/
theorem qLx_tot : ∀ a b : List Int, qLx a b ∨ qLx b a
  | [], _ => Or.inl trivial
  | _ :: _, [] => Or.inr trivial
  | x :: a, y :: b => by
    rcases Int.lt_trichotomy x y with h | h | h
    · exact Or.inl (Or.inl h)
    · rcases qLx_tot a b with g | g
      · exact Or.inl (Or.inr ⟨h, g⟩)
      · exact Or.inr (Or.inr ⟨h.symm, g⟩)
    · exact Or.inr (Or.inl h)
/-- S is D, sorted -/
def cnSo (D S : List (List Int)) : Prop := S.Perm D ∧ S.Pairwise qLx
theorem cnSo_u : ∀ {S S' : List (List Int)}, S.Perm S' → S.Pairwise qLx → S'.Pairwise qLx → S = S'
  | [], S', h, _, _ => h.nil_eq
  | s :: S, S', h, p, p' => by
    match S', h, p' with
    | [], h, _ => exact absurd h.symm.nil_eq (by simp)
    | t :: T, h, p' =>
      rw [List.pairwise_cons] at p p'
      have e : s = t := by
        have ms : s ∈ t :: T := h.mem_iff.1 (List.mem_cons_self ..)
        have mt : t ∈ s :: S := h.mem_iff.2 (List.mem_cons_self ..)
        rcases List.mem_cons.1 ms with z | z
        · exact z
        · rcases List.mem_cons.1 mt with y | y
          · exact y.symm
          · exact qLx_a (p.1 t y) (p'.1 s z)
      subst e
      rw [cnSo_u (List.Perm.cons_inv h) p.2 p'.2]
noncomputable def cnS (D : List (List Int)) : List (List Int) := Classical.epsilon (cnSo D)
theorem cnS_e {D S : List (List Int)} (h : cnSo D S) : cnS D = S := by
  have g : cnSo D (cnS D) := Classical.epsilon_spec (p := cnSo D) ⟨S, h⟩
  exact cnSo_u (g.1.trans h.1.symm) g.2 h.2
theorem cnS_p {D D' : List (List Int)} (h : D.Perm D') : cnS D = cnS D' := by
  have e : cnSo D = cnSo D' := funext fun S => propext ⟨fun g => ⟨g.1.trans h, g.2⟩, fun g => ⟨g.1.trans h.symm, g.2⟩⟩
  unfold cnS
  rw [e]
/-- a point as a blank's description has it; a triple -/
noncomputable def cnDe (H : Int → List Int) (b v : Int) : List Int := if 0 < v then 0 :: shWd v else if -v = b then [1] else 2 :: (H (-v)).flatMap shWd
noncomputable def cnD (H : Int → List Int) (b : Int) (t : qA) : List Int := cnDe H b t.1 ++ (cnDe H b t.2.1 ++ cnDe H b t.2.2)
abbrev cnSt (b : Int) (t : qA) : Prop := t.1 = -b ∨ t.2.1 = -b ∨ t.2.2 = -b
/-- the message of a blank's next hash -/
noncomputable def cnM (H : Int → List Int) (L : List qA) (b : Int) : List Int := (H b).flatMap shWd ++ (cnS ((L.filter (fun t => cnSt b t)).map (cnD H b))).flatten
def shDl (l : List Int) : List Int := aF (shDg l) 0 8
noncomputable def cnNx (L : List qA) (H : Int → List Int) (b : Int) : List Int := shDl (cnM H L b)
theorem cnM_p {H : Int → List Int} {L L' : List qA} (h : L.Perm L') (b : Int) : cnM H L b = cnM H L' b := by
  unfold cnM
  rw [cnS_p ((h.filter _).map _)]
theorem cnNx_p {H : Int → List Int} {L L' : List qA} (h : L.Perm L') : cnNx L H = cnNx L' H := funext fun b => by
  unfold cnNx
  rw [cnM_p h]
/-- how many are different -/
noncomputable def cnDf (H : Int → List Int) (n : Int) : Int := cntI (fun a => 1 ≤ a ∧ ∀ b, 1 ≤ b → b < a → ¬ H b = H a) (n + 1).toNat
/-- rounds: the hashes, how many rounds -/
noncomputable def cnRo (L : List qA) (n : Int) : Nat → (Int → List Int) → Int → (Int → List Int) × Int
  | 0, H, r => (H, r)
  | p + 1, H, r => if n < 2 then (cnNx L H, r + 1) else if cnDf (cnNx L H) n ≤ cnDf H n then (H, r + 1) else cnRo L n p (cnNx L H) (r + 1)
noncomputable def cnHa (L : List qA) (n : Int) : (Int → List Int) × Int := cnRo L n 10 (fun _ => shDl []) 0
theorem cnRo_p {L L' : List qA} (h : L.Perm L') {n : Int} : ∀ (p : Nat) (H : Int → List Int) (r : Int), cnRo L n p H r = cnRo L' n p H r
  | 0, _, _ => rfl
  | p + 1, H, r => by
    rw [cnRo, cnRo, cnNx_p h, cnRo_p h p]
theorem cnHa_p {L L' : List qA} (h : L.Perm L') {n : Int} : cnHa L n = cnHa L' n := cnRo_p h 10 _ _
theorem cnDf_b {H : Int → List Int} {n : Int} (hn : 0 ≤ n) : 0 ≤ cnDf H n ∧ cnDf H n ≤ n + 1 := by
  have := cntI_b (fun a => 1 ≤ a ∧ ∀ b, 1 ≤ b → b < a → ¬ H b = H a) (n + 1).toNat
  unfold cnDf
  omega
/-- less in the order of hashes -/
def cnL (H : Int → List Int) (a b : Int) : Prop := qLx (H a) (H b) ∧ ¬ H a = H b
theorem cnL_t {H : Int → List Int} {a b c : Int} (h : cnL H a b) (g : qLx (H b) (H c)) : cnL H a c := ⟨qLx_t h.1 g, fun e => h.2 (qLx_a h.1 (by rw [e]; exact g))⟩
theorem cnL_n {H : Int → List Int} {a b : Int} : ¬ cnL H a b ↔ qLx (H b) (H a) := by
  refine ⟨fun h => ?_, fun h g => g.2 (qLx_a g.1 h)⟩
  rcases qLx_tot (H b) (H a) with g | g
  · exact g
  · by_cases e : H a = H b
    · rw [e]; exact qLx_r _
    · exact absurd ⟨g, e⟩ h
/-- the first of those with its hash -/
def cnF (H : Int → List Int) (a : Int) : Prop := 1 ≤ a ∧ ∀ b, 1 ≤ b → b < a → ¬ H b = H a
/-- its group -/
noncomputable def cnG (H : Int → List Int) (n b : Int) : Int := cntI (fun c => cnF H c ∧ cnL H c b) (n + 1).toNat
/-- how many come before it, how many up to it -/
noncomputable def cnLo (H : Int → List Int) (n b : Int) : Int := cntI (fun c => 1 ≤ c ∧ cnL H c b) (n + 1).toNat
noncomputable def cnHi (H : Int → List Int) (n b : Int) : Int := cntI (fun c => 1 ≤ c ∧ qLx (H c) (H b)) (n + 1).toNat

/-! CanonNames, the reference (X47): graphs -/
/-- triple k of graph g -/
def cnTr (pt : Int → Int) (g : Int) : Int → qA := fun k => (pt (120 * g + 3 * k), pt (120 * g + 3 * k + 1), pt (120 * g + 3 * k + 2))
def cnGr (pt : Int → Int) (g n : Int) : List qA := aF (cnTr pt g) 0 n.toNat
def cnPt (nb v : Int) : Prop := (0 < v ∧ v ≤ 1000) ∨ (v < 0 ∧ -nb ≤ v)
def cnTp (nb : Int) (t : qA) : Prop := cnPt nb t.1 ∧ cnPt nb t.2.1 ∧ cnPt nb t.2.2
section
variable {bl cu pt pt' : Int → Int} {g k n s p o v x nb hd nk : Int} {A B : Prop} {L : List qA} {t : qA}
theorem cnGr_mem : t ∈ cnGr pt g n ↔ ∃ k, (0 ≤ k ∧ k < n) ∧ t = cnTr pt g k := by
  unfold cnGr
  rw [aF_mem]
  constructor
  · rintro ⟨i, hi, e⟩
    exact ⟨i, by omega, e⟩
  · rintro ⟨i, hi, e⟩
    exact ⟨i, by omega, e⟩
theorem cnGr_len (h : 0 ≤ n) : ((cnGr pt g n).length : Int) = n := by
  unfold cnGr
  rw [aF_len]; omega
theorem T47_isPointB (hb : 0 ≤ bl 8 ∧ bl 8 ≤ 8) (h1 : cnPt (bl 8) v → B) (h0 : ¬ cnPt (bl 8) v → A) : wpX47_isPoint (fun r => (r = 0 → A) ∧ (¬ r = 0 → B)) bl v := by
  unfold cnPt at h1 h0
  unfold wpX47_isPoint
  exact ⟨fun _ => ⟨fun _ => ⟨fun _ => h0 (by omega), fun y => absurd rfl y⟩, fun _ => ⟨⟨by omega, by omega⟩, fun _ => ⟨fun _ => h0 (by omega), fun y => absurd rfl y⟩, fun _ => ⟨fun y => absurd y (by decide), fun _ => h1 (by omega)⟩⟩⟩, fun _ => ⟨fun _ => ⟨fun _ => h0 (by omega), fun y => absurd rfl y⟩, fun _ => ⟨fun y => absurd y (by decide), fun _ => h1 (by omega)⟩⟩⟩
theorem T47_find {post : Int → Prop} (hg : 0 ≤ g ∧ g < 9) (hn : 0 ≤ cu g ∧ cu g ≤ 40) (h1 : ∀ k, 0 ≤ k → k < cu g → cnTr pt g k = (s, p, o) → (∀ i, 0 ≤ i → i < k → ¬ cnTr pt g i = (s, p, o)) → post k) (h0 : ¬ (s, p, o) ∈ cnGr pt g (cu g) → post (-1)) : wpX47_find post cu pt g s p o := by
  unfold wpX47_find
  refine wloop (fun fu k => wX47_find_3 (fun k => post k) (post (-1)) g s p o cu pt fu k) (fun k => (0 ≤ k ∧ k ≤ cu g) ∧ ∀ i, 0 ≤ i → i < k → ¬ cnTr pt g i = (s, p, o)) (fun k => (40 - k).toNat) ?_ 0 ⟨by omega, fun i i0 i1 => by omega⟩
  rintro k ⟨hk, hno⟩ f ih
  rw [wX47_find_3]
  have nxt : ¬ cnTr pt g k = (s, p, o) → ¬ cu g ≤ k → ∀ k' : Int, k' = k + 1 → wX47_find_3 (fun k => post k) (post (-1)) g s p o cu pt f k' := fun ne z k' e => by
    rw [e]
    refine ih _ ⟨by omega, fun i i0 i1 => ?_⟩ (by omega)
    by_cases y : i = k
    · rw [y]; exact ne
    · exact hno i i0 (by omega)
  unfold wpX47_at
  have e3 : ∀ {a b c : Int}, cnTr pt g k = (a, b, c) ↔ pt (120 * g + 3 * k) = a ∧ pt (120 * g + 3 * k + 1) = b ∧ pt (120 * g + 3 * k + 2) = c := by
    intro a b c
    unfold cnTr
    constructor
    · intro h
      injection h with u1 u2
      injection u2 with u2 u3
      exact ⟨u1, u2, u3⟩
    · rintro ⟨u1, u2, u3⟩
      rw [u1, u2, u3]
  refine ⟨hg, fun z => h0 (fun m => ?_), fun z => ⟨⟨by omega, by omega⟩, by omega, fun c1 => ⟨by omega, fun c2 => ⟨by omega, fun c3 => h1 k hk.1 (by omega) (e3.2 ⟨c1, c2, c3⟩) hno, fun c3 => ⟨by omega, nxt (fun w => c3 (e3.1 w).2.2) z⟩⟩, fun c2 => ⟨by omega, nxt (fun w => c2 (e3.1 w).2.1) z⟩⟩, fun c1 => ⟨by omega, nxt (fun w => c1 (e3.1 w).1) z⟩⟩⟩
  obtain ⟨i, hi, e⟩ := cnGr_mem.1 m
  exact hno i hi.1 (by omega) e.symm
theorem T47_blank {post : Int → (Int → Int) → Int → Int → Prop} (hb : 0 ≤ bl 8 ∧ bl 8 ≤ 8) (h1 : bl 8 = 8 → post (-2) bl hd 0) (h0 : bl 8 < 8 → post (bl 8 + 1) (updI bl 8 (bl 8 + 1)) 0 0) : wpX47_blank post bl hd := by
  unfold wpX47_blank
  refine ⟨h1, fun z => ⟨⟨by omega, by omega⟩, fun v ev b eb => ?_⟩⟩
  rw [eb, ev, updI_s]
  exact h0 (by omega)
/-- writes at one triple leave all others -/
theorem cnTr_o (h : ∀ i, ¬ (120 * g + 3 * k ≤ i ∧ i < 120 * g + 3 * k + 3) → pt' i = pt i) {g' i : Int} (hi : 0 ≤ i ∧ i < 40) (hk : 0 ≤ k ∧ k < 40) (ne : ¬ (g' = g ∧ i = k)) : cnTr pt' g' i = cnTr pt g' i := by
  unfold cnTr
  rw [h _ (by omega), h _ (by omega), h _ (by omega)]
theorem cnGr_o (h : ∀ i, ¬ (120 * g ≤ i ∧ i < 120 * g + 120) → pt' i = pt i) {g' : Int} (hn : n ≤ 40) (ne : ¬ g' = g) : cnGr pt' g' n = cnGr pt g' n := by
  unfold cnGr
  refine aF_c _ _ (fun i i0 i1 => ?_)
  unfold cnTr
  rw [h _ (by omega), h _ (by omega), h _ (by omega)]
theorem T47_triple {post : Int → (Int → Int) → (Int → Int) → Int → Int → Prop} (hb : 0 ≤ bl 8 ∧ bl 8 ≤ 8) (hn : 0 ≤ cu 8 ∧ cu 8 ≤ 40) (h1 : ¬ cnTp (bl 8) (s, p, o) → post (-1) cu pt hd 0) (h2 : cnTp (bl 8) (s, p, o) → (s, p, o) ∈ cnGr pt 8 (cu 8) → post 0 cu pt hd 0) (h3 : cnTp (bl 8) (s, p, o) → ¬ (s, p, o) ∈ cnGr pt 8 (cu 8) → cu 8 = 40 → post (-2) cu pt hd 0)
  (h4 : cnTp (bl 8) (s, p, o) → ¬ (s, p, o) ∈ cnGr pt 8 (cu 8) → cu 8 < 40 → ∀ pt', cnGr pt' 8 (cu 8 + 1) = cnGr pt 8 (cu 8) ++ [(s, p, o)] → (∀ g' n, ¬ g' = 8 → n ≤ 40 → cnGr pt' g' n = cnGr pt g' n) → post 1 (updI cu 8 (cu 8 + 1)) pt' 0 0) : wpX47_triple post bl cu pt hd s p o := by
  unfold wpX47_triple
  refine T47_isPointB hb (fun c1 => T47_isPointB hb (fun c2 => T47_isPointB hb (fun c3 => T47_find (by decide) hn (fun k k0 k1 e _ => ⟨fun w => by omega, fun _ => h2 ⟨c1, c2, c3⟩ (cnGr_mem.2 ⟨k, ⟨k0, k1⟩, e.symm⟩)⟩) (fun no => ⟨fun _ => ⟨fun w => h3 ⟨c1, c2, c3⟩ no w, fun w => ?_⟩, fun w => absurd (by decide) w⟩)) (fun w => h1 (fun C => w C.2.2))) (fun w => h1 (fun C => w C.2.1))) (fun w => h1 (fun C => w C.1))
  unfold wpX47_at
  refine ⟨⟨by omega, by omega⟩, by omega, fun p1 e1 => ⟨by omega, fun p2 e2 => ⟨by omega, fun p3 e3 => ⟨⟨by omega, by omega⟩, fun v ev cu' ec => ?_⟩⟩⟩⟩
  rw [ec, ev]
  have f : ∀ i, ¬ (120 * 8 + 3 * cu 8 ≤ i ∧ i < 120 * 8 + 3 * cu 8 + 3) → p3 i = pt i := fun i h => by
    rw [e3, updI_n (by omega), e2, updI_n (by omega), e1, updI_n (by omega)]
  refine h4 ⟨c1, c2, c3⟩ no (by omega) p3 ?_ (fun g' n ne hn40 => cnGr_o (g := 8) (fun i h => f i (by omega)) hn40 ne)
  unfold cnGr
  rw [show (cu 8 + 1).toNat = (cu 8).toNat + 1 by omega, aF_s]
  have a1 : aF (cnTr p3 8) 0 (cu 8).toNat = aF (cnTr pt 8) 0 (cu 8).toNat := aF_c _ _ (fun i i0 i1 => cnTr_o (g := 8) (k := cu 8) f ⟨by omega, by omega⟩ ⟨by omega, by omega⟩ (by omega))
  rw [a1, show (0 : Int) + ((cu 8).toNat : Int) = cu 8 by omega]
  have a2 : cnTr p3 8 (cu 8) = (s, p, o) := by
    unfold cnTr
    rw [e3, updI_s, updI_n (by omega), updI_n (by omega), e2, updI_s, updI_n (by omega), e1, updI_s]
  rw [a2]
theorem aF_del {α : Type} {f : Int → α} {j : Nat} {m : Nat} (h : j < m) : (aF f 0 j ++ aF f (j + 1) (m - j - 1)) = (aF f 0 m).eraseIdx j := by
  have e : aF f 0 m = aF f 0 j ++ (f j :: aF f (j + 1) (m - j - 1)) := by
    have : m = j + ((m - j - 1) + 1) := by omega
    conv => lhs; rw [this]
    rw [aF_ap, aF, show (0 : Int) + (j : Int) = j by omega]
  rw [e, List.eraseIdx_append_of_length_le (by rw [aF_len]; exact Nat.le_refl _), aF_len, Nat.sub_self]; rfl
theorem T47_drop {post : Int → (Int → Int) → (Int → Int) → Int → Int → Prop} (hn : 0 ≤ cu 8 ∧ cu 8 ≤ 40) (h0 : ¬ (s, p, o) ∈ cnGr pt 8 (cu 8) → post 0 cu pt hd 0)
  (h1 : ∀ k, 0 ≤ k → k < cu 8 → cnTr pt 8 k = (s, p, o) → ∀ pt', cnGr pt' 8 (cu 8 - 1) = (cnGr pt 8 (cu 8)).eraseIdx k.toNat → (∀ g' n, ¬ g' = 8 → n ≤ 40 → cnGr pt' g' n = cnGr pt g' n) → post 1 (updI cu 8 (cu 8 - 1)) pt' 0 0) : wpX47_drop post cu pt hd s p o := by
  unfold wpX47_drop
  refine T47_find (by decide) hn (fun k k0 k1 e _ => ⟨fun _ => ⟨⟨by omega, by omega⟩, fun v ev cu' ec => ?_⟩, fun w => absurd k0 w⟩) (fun no => ⟨fun w => absurd w (by decide), fun _ => h0 no⟩)
  have c8 : cu' 8 = cu 8 - 1 := by rw [ec, updI_s, ev]
  unfold wpX47_at
  refine ⟨⟨by omega, by omega⟩, ?_⟩
  refine wl2 (fun fu i pt => wX47_drop_43 (fun pt' => post 1 cu' pt' 0 0) cu' fu i pt) (fun i q => (120 * 8 + 3 * k ≤ i ∧ i ≤ 120 * 8 + 3 * (cu 8 - 1)) ∧ (∀ j, j < 120 * 8 + 3 * k → q j = pt j) ∧ (∀ j, 120 * 8 + 3 * k ≤ j → j < i → q j = pt (j + 3)) ∧ ∀ j, i ≤ j → q j = pt j) (fun i _ => (120 * 8 + 3 * cu 8 - i).toNat) ?_ (120 * 8 + 3 * k) pt ⟨by omega, fun _ _ => rfl, fun j j0 j1 => by omega, fun _ _ => rfl⟩
  rintro i q ⟨hi, q1, q2, q3⟩ f ih
  rw [wX47_drop_43]
  unfold wpX47_at
  rw [c8]
  refine ⟨⟨by omega, by omega⟩, fun z => ?_, fun z => ⟨by omega, fun u eu => ⟨by omega, fun q' eq => ⟨⟨by omega, by omega⟩, fun i' ei => ?_⟩⟩⟩⟩
  · have ei : i = 120 * 8 + 3 * (cu 8 - 1) := by omega
    rw [ec, ev]
    refine h1 k k0 k1 e q ?_ (fun g' n ne hn40 => ?_)
    · have d := aF_del (f := cnTr pt 8) (j := k.toNat) (m := (cu 8).toNat) (by omega)
      unfold cnGr
      rw [← d, show (cu 8 - 1).toNat = k.toNat + ((cu 8).toNat - k.toNat - 1) by omega, aF_ap]
      have a1 : aF (cnTr q 8) 0 k.toNat = aF (cnTr pt 8) 0 k.toNat := aF_c _ _ (fun i i0 i1 => by
        unfold cnTr
        rw [q1 _ (by omega), q1 _ (by omega), q1 _ (by omega)])
      have a2 : aF (cnTr q 8) (0 + (k.toNat : Int)) ((cu 8).toNat - k.toNat - 1) = aF (cnTr pt 8) ((k.toNat : Int) + 1) ((cu 8).toNat - k.toNat - 1) := aF_sh (fun i i0 i1 => by
        unfold cnTr
        rw [q2 _ (by omega) (by omega), q2 _ (by omega) (by omega), q2 _ (by omega) (by omega)]
        rw [show 120 * 8 + 3 * (0 + (k.toNat : Int) + i) + 3 = 120 * 8 + 3 * ((k.toNat : Int) + 1 + i) by omega, show 120 * 8 + 3 * (0 + (k.toNat : Int) + i) + 1 + 3 = 120 * 8 + 3 * ((k.toNat : Int) + 1 + i) + 1 by omega, show 120 * 8 + 3 * (0 + (k.toNat : Int) + i) + 2 + 3 = 120 * 8 + 3 * ((k.toNat : Int) + 1 + i) + 2 by omega])
      rw [a1, a2]
    · refine cnGr_o (g := 8) (fun j hj => ?_) hn40 ne
      by_cases w : j < 120 * 8 + 3 * k
      · exact q1 j w
      · exact q3 j (by omega)
  · rw [ei]
    refine ih (i + 1) q' ⟨by omega, fun j hj => by rw [eq, updI_n (by omega)]; exact q1 j hj, fun j j0 j1 => ?_, fun j hj => by rw [eq, updI_n (by omega)]; exact q3 j (by omega)⟩ (by omega)
    rw [eq]
    by_cases w : j = i
    · rw [w, updI_s, eu]; exact q3 _ (by omega)
    · rw [updI_n w]; exact q2 j j0 (by omega)
theorem T47_keep {post : Int → (Int → Int) → (Int → Int) → (Int → Int) → Int → Int → Int → Prop} (hk : 0 ≤ nk ∧ nk ≤ 8) (h1 : nk = 8 → post (-2) bl cu pt nk hd 0) (h0 : nk < 8 → ∀ pt', (∀ n, n ≤ 40 → cnGr pt' nk n = cnGr pt 8 n) → (∀ g' n, 0 ≤ g' → g' < nk → n ≤ 40 → cnGr pt' g' n = cnGr pt g' n) → post nk (updI (updI bl nk (bl 8)) 8 0) (updI (updI cu nk (cu 8)) 8 0) pt' (nk + 1) 0 0) : wpX47_keep post bl cu pt nk hd := by
  unfold wpX47_keep
  refine ⟨h1, fun z v ev => ⟨by omega, fun b1 eb1 v2 ev2 c1 ec1 => ?_⟩⟩
  refine wl2 (fun fu i pt => wX47_keep_51 _ nk fu i pt) (fun i q => (0 ≤ i ∧ i ≤ 120) ∧ (∀ j, ¬ (120 * nk ≤ j ∧ j < 120 * nk + 120) → q j = pt j) ∧ ∀ j, 0 ≤ j → j < i → q (120 * nk + j) = pt (960 + j)) (fun i _ => (120 - i).toNat) ?_ 0 pt ⟨by omega, fun _ _ => rfl, fun j j0 j1 => by omega⟩
  rintro i q ⟨hi, q1, q2⟩ f ih
  rw [wX47_keep_51]
  refine ⟨fun w => ⟨⟨by omega, by omega⟩, fun k2 ek b2 eb2 c2 ec2 => ⟨⟨by omega, by omega⟩, ?_⟩⟩, fun w => ⟨by omega, fun u eu => ⟨by omega, fun q' eq => ⟨⟨by omega, by omega⟩, fun i' ei => ?_⟩⟩⟩⟩
  · rw [ek, show nk + 1 - 1 = nk by omega, eb2, ec2, eb1, ec1, ev, ev2]
    refine h0 (by omega) q (fun n hn => ?_) (fun g' n g0 g1 hn => cnGr_o (g := nk) q1 hn (by omega))
    unfold cnGr
    refine aF_c _ _ (fun j j0 j1 => ?_)
    unfold cnTr
    rw [q2 (3 * j) (by omega) (by omega), Int.add_assoc, q2 (3 * j + 1) (by omega) (by omega), Int.add_assoc, q2 (3 * j + 2) (by omega) (by omega), ← Int.add_assoc, ← Int.add_assoc]
    rfl
  · rw [ei]
    refine ih (i + 1) q' ⟨by omega, fun j hj => by rw [eq, updI_n (by omega)]; exact q1 j hj, fun j j0 j1 => ?_⟩ (by omega)
    rw [eq]
    by_cases y : j = i
    · rw [y, updI_s, eu]; exact q1 _ (by omega)
    · rw [updI_n (by omega)]; exact q2 j j0 (by omega)
end

/-! CanonNames, the reference (X47): a blank's next hash -/
/-- the words of hash b -/
def cnHw (hs : Int → Int) (b : Int) : List Int := aF hs (8 * b) 8
/-- description d -/
def cnRw (de : Int → Int) (d : Int) : List Int := aF de (128 * d + 1) (de (128 * d)).toNat
def cnBy (f : Int → Int) (k i : Int) : Int := f (k + i / 4) / 2 ^ (24 - 8 * (i % 4)).toNat % 256
section
variable {bl cu pt pt' hs nw de de' ms sa sd kc wd sc f g : Int → Int} {b c d e k n m p q s t v x y nb : Int} {A B : Prop} {L : List qA} {l r : List Int}
theorem shWd_fl (k : Int) : ∀ m : Nat, (aF f k m).flatMap shWd = aF (cnBy f k) 0 (4 * m)
  | 0 => rfl
  | m + 1 => by
    rw [aF_s, List.flatMap_append, shWd_fl k m, show 4 * (m + 1) = 4 * m + 4 by omega, aF_ap]
    congr 1
    rw [List.flatMap_cons, List.flatMap_nil, List.append_nil]
    have h0 : cnBy f k (0 + ((4 * m : Nat) : Int)) = f (k + m) / 16777216 % 256 := by
      unfold cnBy
      rw [show k + (0 + ((4 * m : Nat) : Int)) / 4 = k + m by omega, show (24 - 8 * ((0 + ((4 * m : Nat) : Int)) % 4)).toNat = 24 by omega]
      omega
    have h1 : cnBy f k (0 + ((4 * m : Nat) : Int) + 1) = f (k + m) / 65536 % 256 := by
      unfold cnBy
      rw [show k + (0 + ((4 * m : Nat) : Int) + 1) / 4 = k + m by omega, show (24 - 8 * ((0 + ((4 * m : Nat) : Int) + 1) % 4)).toNat = 16 by omega]
      omega
    have h2 : cnBy f k (0 + ((4 * m : Nat) : Int) + 1 + 1) = f (k + m) / 256 % 256 := by
      unfold cnBy
      rw [show k + (0 + ((4 * m : Nat) : Int) + 1 + 1) / 4 = k + m by omega, show (24 - 8 * ((0 + ((4 * m : Nat) : Int) + 1 + 1) % 4)).toNat = 8 by omega]
      omega
    have h3 : cnBy f k (0 + ((4 * m : Nat) : Int) + 1 + 1 + 1) = f (k + m) % 256 := by
      unfold cnBy
      rw [show k + (0 + ((4 * m : Nat) : Int) + 1 + 1 + 1) / 4 = k + m by omega, show (24 - 8 * ((0 + ((4 * m : Nat) : Int) + 1 + 1 + 1) % 4)).toNat = 0 by omega]
      omega
    rw [aF, aF, aF, aF, aF, h0, h1, h2, h3]
    rfl
theorem cnHw_len : (cnHw hs b).length = 8 := aF_len _ _
theorem cnHw_fl : ((cnHw hs b).flatMap shWd) = aF (cnBy hs (8 * b)) 0 32 := shWd_fl _ 8
theorem cnBy_b : 0 ≤ cnBy f k n ∧ cnBy f k n < 256 := by
  unfold cnBy
  exact ⟨Int.emod_nonneg _ (by decide), Int.emod_lt_of_pos _ (by decide)⟩
theorem cnDe_len : (cnDe (cnHw hs) b v).length ≤ 33 ∧ 0 < (cnDe (cnHw hs) b v).length := by
  unfold cnDe
  split
  · exact ⟨by show 5 ≤ 33; decide, by show 0 < 5; decide⟩
  · split
    · exact ⟨by show 1 ≤ 33; decide, by show 0 < 1; decide⟩
    · rw [List.length_cons, cnHw_fl, aF_len]; exact ⟨by decide, by decide⟩
theorem cnDe_b : ∀ x ∈ cnDe (cnHw hs) b v, 0 ≤ x ∧ x < 256 := fun x hx => by
  unfold cnDe at hx
  split at hx
  · unfold shWd at hx
    simp only [List.mem_cons, List.not_mem_nil, or_false] at hx
    omega
  · split at hx
    · simp only [List.mem_cons, List.not_mem_nil, or_false] at hx
      omega
    · rcases List.mem_cons.1 hx with z | z
      · omega
      · rw [cnHw_fl] at z
        obtain ⟨i, _, e⟩ := (aF_mem _ _).1 z
        rw [e]; exact cnBy_b
theorem cnD_b {t : qA} : ∀ x ∈ cnD (cnHw hs) b t, 0 ≤ x ∧ x < 256 := fun x hx => by
  unfold cnD at hx
  rw [List.mem_append, List.mem_append] at hx
  rcases hx with z | z | z <;> exact cnDe_b x z
theorem T47_d73 {K : Int → (Int → Int) → Prop} (hx : 0 ≤ x ∧ x + 128 ≤ 5120) (hn : 1 ≤ n ∧ n ≤ 96) (h0 : v ≤ 0 → K n de) (h1 : 0 < v → ∀ de', (∀ i, ¬ (x + n ≤ i ∧ i < x + n + 4) → de' i = de i) → aF de' (x + n) 4 = shWd v → K (n + 4) de') : ∃ fu : Nat, wX47_describe_73 K x v fu n 0 de := by
  by_cases hv : v ≤ 0
  · refine ⟨1, ?_⟩
    rw [wX47_describe_73]
    exact ⟨fun z => h0 hv, fun _ => ⟨fun _ => h0 hv, fun z => absurd hv z⟩⟩
  · refine ⟨5, ?_⟩
    rw [wX47_describe_73]
    refine ⟨fun z => absurd z (by decide), fun _ => ⟨fun z => absurd z hv, fun _ => ⟨by decide, by decide, fun v1 e1 => ⟨by omega, fun d1 ed1 => ⟨by omega, fun n1 en1 => ⟨by decide, fun k1 ek1 => ?_⟩⟩⟩⟩⟩⟩
    rw [ek1, en1, show (0 : Int) + 1 = 1 by decide, wX47_describe_73]
    refine ⟨fun z => absurd z (by decide), fun _ => ⟨fun z => absurd z hv, fun _ => ⟨by decide, by decide, fun v2 e2 => ⟨by omega, fun d2 ed2 => ⟨by omega, fun n2 en2 => ⟨by decide, fun k2 ek2 => ?_⟩⟩⟩⟩⟩⟩
    rw [ek2, en2, show (1 : Int) + 1 = 2 by decide, wX47_describe_73]
    refine ⟨fun z => absurd z (by decide), fun _ => ⟨fun z => absurd z hv, fun _ => ⟨by decide, by decide, fun v3 e3 => ⟨by omega, fun d3 ed3 => ⟨by omega, fun n3 en3 => ⟨by decide, fun k3 ek3 => ?_⟩⟩⟩⟩⟩⟩
    rw [ek3, en3, show (2 : Int) + 1 = 3 by decide, wX47_describe_73]
    refine ⟨fun z => absurd z (by decide), fun _ => ⟨fun z => absurd z hv, fun _ => ⟨by decide, by decide, fun v4 e4 => ⟨by omega, fun d4 ed4 => ⟨by omega, fun n4 en4 => ⟨by decide, fun k4 ek4 => ?_⟩⟩⟩⟩⟩⟩
    rw [ek4, en4, show (3 : Int) + 1 = 4 by decide, wX47_describe_73]
    refine ⟨fun _ => ?_, fun z => absurd (by decide) z⟩
    rw [show n + 1 + 1 + 1 + 1 = n + 4 by omega]
    refine h1 (by omega) d4 (fun i hi => ?_) ?_
    · rw [ed4, updI_n (by omega), ed3, updI_n (by omega), ed2, updI_n (by omega), ed1, updI_n (by omega)]
    · have w0 : d4 (x + n) = v / 16777216 % 256 := by
        rw [ed4, updI_n (by omega), ed3, updI_n (by omega), ed2, updI_n (by omega), ed1, updI_s, e1, show ((24 : Int) - 8 * 0).toNat = 24 by decide]
        omega
      have w1 : d4 (x + n + 1) = v / 65536 % 256 := by
        rw [ed4, updI_n (by omega), ed3, updI_n (by omega), ed2, show x + n + 1 = x + (n + 1) by omega, updI_s, e2, show ((24 : Int) - 8 * 1).toNat = 16 by decide]
        omega
      have w2 : d4 (x + n + 1 + 1) = v / 256 % 256 := by
        rw [ed4, updI_n (by omega), ed3, show x + n + 1 + 1 = x + (n + 1 + 1) by omega, updI_s, e3, show ((24 : Int) - 8 * 2).toNat = 8 by decide]
        omega
      have w3 : d4 (x + n + 1 + 1 + 1) = v % 256 := by
        rw [ed4, show x + n + 1 + 1 + 1 = x + (n + 1 + 1 + 1) by omega, updI_s, e4, show ((24 : Int) - 8 * 3).toNat = 0 by decide]
        omega
      rw [aF, aF, aF, aF, aF, w0, w1, w2, w3]
      rfl
theorem T47_d120 {K : Int → (Int → Int) → Prop} (hx : 0 ≤ x ∧ x + 128 ≤ 5120) (hn : 1 ≤ n ∧ n ≤ 96) (hb : -8 ≤ v) (h0 : (0 ≤ v ∨ -v = b) → K n de) (h1 : v < 0 → ¬ -v = b → ∀ de', (∀ i, ¬ (x + n ≤ i ∧ i < x + n + 32) → de' i = de i) → aF de' (x + n) 32 = (cnHw hs (-v)).flatMap shWd → K (n + 32) de') : ∃ fu : Nat, wX47_describe_120 K b x v hs fu n 0 de := by
  by_cases hv : 0 ≤ v ∨ -v = b
  · refine ⟨1, ?_⟩
    rw [wX47_describe_120]
    exact ⟨fun z => h0 hv, fun _ => ⟨fun _ => h0 hv, fun z => ⟨by omega, fun _ => h0 hv, fun z2 => by omega⟩⟩⟩
  · suffices H : ∃ fu : Nat, wX47_describe_120 K b x v hs fu (n + 0) 0 de by
      rw [Int.add_zero] at H
      exact H
    refine wl2 (fun fu i q => wX47_describe_120 K b x v hs fu (n + i) i q) (fun i q => (0 ≤ i ∧ i ≤ 32) ∧ (∀ j, ¬ (x + n ≤ j ∧ j < x + n + 32) → q j = de j) ∧ ∀ j, 0 ≤ j → j < i → q (x + n + j) = cnBy hs (8 * -v) j) (fun i _ => (32 - i).toNat) ?_ 0 de ⟨by omega, fun _ _ => rfl, fun j j0 j1 => by omega⟩
    rintro i q ⟨hi, q1, q2⟩ fu ih
    try dsimp only
    rw [wX47_describe_120]
    refine ⟨fun z => ?_, fun z => ⟨fun w => absurd (Or.inl w) hv, fun _ => ⟨by omega, fun w => absurd (Or.inr w) hv, fun _ => ⟨by omega, by omega, by omega, by omega, ?_, fun u eu => ⟨by omega, fun q' eq => ⟨by omega, fun n' en => ⟨by omega, fun i' ei => ?_⟩⟩⟩⟩⟩⟩⟩
    · have ei : i = 32 := by omega
      rw [ei]
      refine h1 (by omega) (fun w => hv (Or.inr w)) q q1 ?_
      rw [cnHw_fl]
      refine aF_sh (fun j j0 j1 => ?_)
      rw [q2 j j0 (by omega), Int.zero_add]
    · have := cnBy_b (f := hs) (k := 8 * -v) (n := i)
      unfold cnBy at this
      unfold zR
      omega
    · rw [ei, en, Int.add_assoc]
      refine ih (i + 1) q' ⟨by omega, fun j hj => by rw [eq, updI_n (by omega)]; exact q1 j hj, fun j j0 j1 => ?_⟩ (by omega)
      rw [eq]
      by_cases w : j = i
      · rw [w, show x + (n + i) = x + n + i by omega, updI_s, eu]; rfl
      · rw [updI_n (by omega)]; exact q2 j j0 (by omega)
theorem T47_d15 {K : Int → (Int → Int) → Prop} {fu : Nat} (hx : 0 ≤ x ∧ x + 128 ≤ 5120) (hd : 0 ≤ d ∧ d < 3) (hn : 1 ≤ n ∧ n ≤ 33 * d + 1) (hk : 0 ≤ k ∧ k < 40) (hb : nb ≤ 8) (hv : pt (120 * 8 + 3 * k + d) = v) (hp : cnPt nb v)
  (h : ∀ de' m, (m : Int) = (cnDe (cnHw hs) b v).length → (∀ i, ¬ (x + n ≤ i ∧ i < x + n + m) → de' i = de i) → aF de' (x + n) (cnDe (cnHw hs) b v).length = cnDe (cnHw hs) b v → wX47_describe_15 K b k x pt hs fu (n + m) (d + 1) de') : wX47_describe_15 K b k x pt hs (fu + 1) n d de := by
  rw [wX47_describe_15]
  unfold wpX47_at
  unfold cnPt at hp
  refine ⟨fun z => by omega, fun _ => ⟨⟨by omega, by omega⟩, by omega, fun u eu => ?_⟩⟩
  rw [hv] at eu
  subst eu
  refine ⟨fun z => ⟨by omega, fun w => ⟨by omega, fun d1 e1 => ⟨by omega, fun n1 en => ?_⟩⟩, fun w => ⟨by omega, fun d1 e1 => ⟨by omega, fun n1 en => ?_⟩⟩⟩, fun z => ⟨by omega, fun d1 e1 => ⟨by omega, fun n1 en => ?_⟩⟩⟩
  · rw [en]
    have eD : cnDe (cnHw hs) b u = [1] := by
      unfold cnDe
      rw [if_neg (by omega), if_pos w]
    rw [eD] at h
    refine T47_d73 hx (by omega) (fun _ => T47_d120 hx (by omega) (by omega) (fun _ => ⟨by omega, fun d' ed => ?_⟩) (fun _ y => absurd w y)) (fun y => by exfalso; omega)
    rw [ed]
    refine h d1 1 rfl (fun i hi => by rw [e1, updI_n (by omega)]) ?_
    show aF d1 (x + n) 1 = [1]
    rw [aF, aF, e1, updI_s]
  · rw [en]
    have eD : cnDe (cnHw hs) b u = 2 :: (cnHw hs (-u)).flatMap shWd := by
      unfold cnDe
      rw [if_neg (by omega), if_neg w]
    rw [eD] at h
    have eL : (2 :: (cnHw hs (-u)).flatMap shWd).length = 33 := by
      rw [List.length_cons, cnHw_fl, aF_len]
    refine T47_d73 hx (by omega) (fun _ => T47_d120 hx (by omega) (by omega) (fun y => by exfalso; omega) (fun _ _ d2 f2 e2 => ⟨by omega, fun d' ed => ?_⟩)) (fun y => by exfalso; omega)
    rw [ed, show n + 1 + 32 = n + 33 by omega]
    refine h d2 33 (by rw [eL]; rfl) (fun i hi => by rw [f2 i (by omega), e1, updI_n (by omega)]) ?_
    rw [eL, aF, show x + n + 1 = x + (n + 1) by omega, e2, f2 _ (by omega), e1, updI_s]
  · rw [en]
    have eD : cnDe (cnHw hs) b u = 0 :: shWd u := by
      unfold cnDe
      rw [if_pos (by omega)]
    rw [eD] at h
    refine T47_d73 hx (by omega) (fun y => absurd y z) (fun _ d2 f2 e2 => T47_d120 hx (by omega) (by omega) (fun _ => ⟨by omega, fun d' ed => ?_⟩) (fun y => by exfalso; omega))
    rw [ed, show n + 1 + 4 = n + 5 by omega]
    refine h d2 5 rfl (fun i hi => by rw [f2 i (by omega), e1, updI_n (by omega)]) ?_
    show aF d2 (x + n) (4 + 1) = _
    rw [aF, show x + n + 1 = x + (n + 1) by omega, e2, f2 _ (by omega), e1, updI_s]
theorem T47_describe {post : (Int → Int) → Int → Prop} (hd : 0 ≤ d ∧ d < 40) (hk : 0 ≤ k ∧ k < 40) (hb : nb ≤ 8) (ht : cnTp nb (cnTr pt 8 k)) (hp : ∀ de', cnRw de' d = cnD (cnHw hs) b (cnTr pt 8 k) → (0 ≤ de' (128 * d) ∧ de' (128 * d) ≤ 99) → (∀ i, ¬ (128 * d ≤ i ∧ i < 128 * d + 128) → de' i = de i) → post de' (d + 1)) : wpX47_describe post pt hs de d b k := by
  unfold wpX47_describe
  obtain ⟨t1, t2, t3⟩ := ht
  refine ⟨⟨by omega, by omega⟩, fun x ex => ⟨4, ?_⟩⟩
  have a1 := cnDe_len (hs := hs) (b := b) (v := (cnTr pt 8 k).1)
  have a2 := cnDe_len (hs := hs) (b := b) (v := (cnTr pt 8 k).2.1)
  have a3 := cnDe_len (hs := hs) (b := b) (v := (cnTr pt 8 k).2.2)
  refine T47_d15 (by omega) (by decide) (by decide) hk hb (v := (cnTr pt 8 k).1) (by rw [Int.add_zero]; rfl) t1 (fun d1 m1 l1 f1 e1 => ?_)
  refine T47_d15 (by omega) (by decide) (by omega) hk hb (v := (cnTr pt 8 k).2.1) (by rw [show (0 : Int) + 1 = 1 by decide]; rfl) t2 (fun d2 m2 l2 f2 e2 => ?_)
  refine T47_d15 (by omega) (by decide) (by omega) hk hb (v := (cnTr pt 8 k).2.2) (by rw [show (0 : Int) + 1 + 1 = 2 by decide]; rfl) t3 (fun d3 m3 l3 f3 e3 => ?_)
  rw [wX47_describe_15]
  refine ⟨fun _ => ⟨by omega, fun u eu => ⟨by omega, fun d4 e4 => ⟨by omega, fun d' ed => ?_⟩⟩⟩, fun z => absurd (by decide) z⟩
  rw [ed]
  have u0 : d4 (128 * d) = u := by rw [e4, ex, updI_s]
  refine hp d4 ?_ (by rw [u0]; omega) (fun i hi => by rw [e4, updI_n (by omega), f3 i (by omega), f2 i (by omega), f1 i (by omega)])
  unfold cnRw cnD
  rw [u0, show u.toNat = (cnDe (cnHw hs) b (cnTr pt 8 k).1).length + ((cnDe (cnHw hs) b (cnTr pt 8 k).2.1).length + (cnDe (cnHw hs) b (cnTr pt 8 k).2.2).length) by omega, aF_ap, aF_ap, ← ex]
  have g1 : aF d4 (x + 1) (cnDe (cnHw hs) b (cnTr pt 8 k).1).length = cnDe (cnHw hs) b (cnTr pt 8 k).1 := by
    refine Eq.trans (aF_c _ _ (fun i i0 i1 => ?_)) e1
    rw [e4, updI_n (by omega), f3 i (by omega), f2 i (by omega)]
  have g2 : aF d4 (x + 1 + ((cnDe (cnHw hs) b (cnTr pt 8 k).1).length : Int)) (cnDe (cnHw hs) b (cnTr pt 8 k).2.1).length = cnDe (cnHw hs) b (cnTr pt 8 k).2.1 := by
    rw [← l1, show x + 1 + m1 = x + (1 + m1) by omega]
    refine Eq.trans (aF_c _ _ (fun i i0 i1 => ?_)) e2
    rw [e4, updI_n (by omega), f3 i (by omega)]
  have g3 : aF d4 (x + 1 + ((cnDe (cnHw hs) b (cnTr pt 8 k).1).length : Int) + ((cnDe (cnHw hs) b (cnTr pt 8 k).2.1).length : Int)) (cnDe (cnHw hs) b (cnTr pt 8 k).2.2).length = cnDe (cnHw hs) b (cnTr pt 8 k).2.2 := by
    rw [← l1, ← l2, show x + 1 + m1 + m2 = x + (1 + m1 + m2) by omega]
    refine Eq.trans (aF_c _ _ (fun i i0 i1 => ?_)) e3
    rw [e4, updI_n (by omega)]
  rw [g1, g2, g3]
/-- rows with the same beginning -/
theorem qLx_ap : ∀ (l a b : List Int), qLx (l ++ a) (l ++ b) ↔ qLx a b
  | [], _, _ => Iff.rfl
  | x :: l, a, b => by
    rw [← qLx_ap l a b]
    exact ⟨fun h => h.elim (fun z => absurd z (by omega)) (fun z => z.2), fun h => Or.inr ⟨rfl, h⟩⟩
theorem qLx_cut {m p q : Nat} (hm : q ≤ m) (hp : q ≤ p) (he : ∀ i : Int, 0 ≤ i → i < q → f (s + i) = g (t + i)) : qLx (aF f s m) (aF g t p) ↔ qLx (aF f (s + q) (m - q)) (aF g (t + q) (p - q)) := by
  conv => lhs; rw [show m = q + (m - q) by omega, show p = q + (p - q) by omega]
  rw [aF_ap, aF_ap, aF_sh he, qLx_ap]
theorem T47_isBeforeB (ha : 0 ≤ c ∧ c < 40) (hb : 0 ≤ d ∧ d < 40) (la : 0 ≤ de (128 * c) ∧ de (128 * c) ≤ 99) (lb : 0 ≤ de (128 * d) ∧ de (128 * d) ≤ 99) (h0 : qLx (cnRw de d) (cnRw de c) → A) (h1 : ¬ qLx (cnRw de d) (cnRw de c) → B) : wpX47_isBefore (fun r => (r = 0 → A) ∧ (¬ r = 0 → B)) de c d := by
  unfold wpX47_isBefore
  refine ⟨by omega, fun n en => ⟨by omega, fun m em => ?_⟩⟩
  rw [← en] at la
  rw [← em] at lb
  unfold cnRw at h0 h1
  rw [← en, ← em] at h0 h1
  refine wloop (fun fu k => wX47_isBefore_26 _ _ c d n m de fu k) (fun k => (1 ≤ k ∧ k ≤ n + 1 ∧ k ≤ m + 1) ∧ ∀ i, 1 ≤ i → i < k → de (128 * c + i) = de (128 * d + i)) (fun k => (101 - k).toNat) ?_ 1 ⟨by omega, fun i i0 i1 => by omega⟩
  rintro k ⟨hk, he⟩ fu ih
  have cut := qLx_cut (f := de) (g := de) (s := 128 * d + 1) (t := 128 * c + 1) (m := m.toNat) (p := n.toNat) (q := (k - 1).toNat) (by omega) (by omega) (fun i i0 i1 => by
    have := he (i + 1) (by omega) (by omega)
    rw [show 128 * d + 1 + i = 128 * d + (i + 1) by omega, show 128 * c + 1 + i = 128 * c + (i + 1) by omega, this])
  rw [cut] at h0 h1
  try dsimp only
  rw [wX47_isBefore_26]
  have fin : (n < k ∨ m < k) → ((m ≤ n → ((0 : Int) = 0 → A) ∧ (¬ (0 : Int) = 0 → B)) ∧ (¬ m ≤ n → ((1 : Int) = 0 → A) ∧ (¬ (1 : Int) = 0 → B))) := fun w => by
    refine ⟨fun z => ⟨fun _ => h0 ?_, fun y => absurd rfl y⟩, fun z => ⟨fun y => absurd y (by decide), fun _ => h1 ?_⟩⟩
    · rw [show m.toNat - (k - 1).toNat = 0 by omega]
      exact trivial
    · rw [show n.toNat - (k - 1).toNat = 0 by omega, show m.toNat - (k - 1).toNat = (m.toNat - (k - 1).toNat - 1) + 1 by omega]
      exact fun y => y
  refine ⟨fun z => fin (Or.inl z), fun z1 => ⟨fun z => fin (Or.inr z), fun z2 => ⟨by omega, fun u eu => ⟨by omega, fun w ew => ⟨fun e => ⟨by omega, fun k' ek => ?_⟩, fun ne => ?_⟩⟩⟩⟩⟩
  · rw [ek]
    refine ih (k + 1) ⟨by omega, fun i i0 i1 => ?_⟩ (by omega)
    by_cases y : i = k
    · rw [y, ← eu, ← ew, e]
    · exact he i i0 (by omega)
  · rw [show m.toNat - (k - 1).toNat = (m.toNat - (k - 1).toNat - 1) + 1 by omega, show n.toNat - (k - 1).toNat = (n.toNat - (k - 1).toNat - 1) + 1 by omega, aF, aF, show 128 * d + 1 + (((k - 1).toNat : Nat) : Int) = 128 * d + k by omega, show 128 * c + 1 + (((k - 1).toNat : Nat) : Int) = 128 * c + k by omega, ← eu, ← ew] at h0 h1
    refine ⟨fun z => ⟨fun _ => h0 (Or.inl (by omega)), fun y => absurd rfl y⟩, fun z => ⟨fun y => absurd y (by decide), fun _ => h1 (fun y => ?_)⟩⟩
    rcases y with y | y
    · omega
    · omega
/-- all that is described -/
theorem T47_n7 {K : (Int → Int) → Int → Prop} (hn : cu 8 = n) (h40 : 0 ≤ n ∧ n ≤ 40) (hb : 1 ≤ b ∧ b ≤ nb ∧ nb ≤ 8) (ht : ∀ t ∈ cnGr pt 8 n, cnTp nb t) (hK : ∀ de' d, (0 ≤ d ∧ d ≤ 40) → aF (cnRw de') 0 d.toNat = ((cnGr pt 8 n).filter (fun t => cnSt b t)).map (cnD (cnHw hs) b) → (∀ i, 0 ≤ i → i < d → 0 ≤ de' (128 * i) ∧ de' (128 * i) ≤ 99) → K de' d) : ∃ fu : Nat, wX47_next_7 K b cu pt hs fu 0 de 0 := by
  refine wl3 (fun fu k de d => wX47_next_7 K b cu pt hs fu k de d) (fun k de d => (0 ≤ k ∧ k ≤ n) ∧ (0 ≤ d ∧ d ≤ k) ∧ aF (cnRw de) 0 d.toNat = ((cnGr pt 8 k).filter (fun t => cnSt b t)).map (cnD (cnHw hs) b) ∧ ∀ i, 0 ≤ i → i < d → 0 ≤ de (128 * i) ∧ de (128 * i) ≤ 99) (fun k _ _ => (n - k).toNat) ?_ 0 de 0 ⟨by omega, by omega, rfl, fun i i0 i1 => by omega⟩
  rintro k de d ⟨hk, hd, e, hl⟩ fu ih
  try dsimp only
  rw [wX47_next_7, hn]
  refine ⟨fun z => ?_, fun z => ?_⟩
  · have ek : k = n := by omega
    rw [ek] at e
    exact hK de d (by omega) e hl
  have eG : cnGr pt 8 (k + 1) = cnGr pt 8 k ++ [cnTr pt 8 k] := by
    unfold cnGr
    rw [show (k + 1).toNat = k.toNat + 1 by omega, aF_s, show (0 : Int) + (k.toNat : Int) = k by omega]
  have yes : cnSt b (cnTr pt 8 k) → ∀ P : (Int → Int) → Int → Prop, (∀ de' d', d' = d + 1 → (∀ k' : Int, k' = k + 1 → wX47_next_7 K b cu pt hs fu k' de' d') → P de' d') → wpX47_describe P pt hs de d b k := fun st P hP => by
    refine T47_describe (by omega) (by omega) hb.2.2 (ht _ (cnGr_mem.2 ⟨k, by omega, rfl⟩)) (fun de' r l fr => hP de' (d + 1) rfl (fun k' ek => ?_))
    rw [ek]
    refine ih (k + 1) de' (d + 1) ⟨by omega, by omega, ?_, fun i i0 i1 => ?_⟩ (by omega)
    · rw [eG, List.filter_append, List.map_append, List.filter_cons_of_pos (by exact decide_eq_true st), List.filter_nil, ← e, show (d + 1).toNat = d.toNat + 1 by omega, aF_s, show (0 : Int) + (d.toNat : Int) = d by omega, r]
      congr 1
      refine aF_c _ _ (fun i i0 i1 => ?_)
      have := hl i (by omega) (by omega)
      unfold cnRw
      rw [fr (128 * i) (by omega)]
      exact aF_c _ _ (fun j j0 j1 => fr j (by omega))
    · by_cases w : i = d
      · rw [w]; exact l
      · rw [fr _ (by omega)]; exact hl i i0 (by omega)
  unfold wpX47_at
  refine ⟨⟨by omega, by omega⟩, by omega, ⟨by omega, by omega⟩, fun c1 => yes (Or.inl c1) _ (fun de' d' ed h => ⟨⟨by omega, by omega⟩, h⟩), fun c1 => ⟨by omega, fun c2 => yes (Or.inr (Or.inl c2)) _ (fun de' d' ed h => ⟨⟨by omega, by omega⟩, h⟩), fun c2 => ⟨by omega, fun c3 => yes (Or.inr (Or.inr c3)) _ (fun de' d' ed h => ⟨⟨by omega, by omega⟩, h⟩), fun c3 => ⟨⟨by omega, by omega⟩, fun k' ek => ?_⟩⟩⟩⟩
  rw [ek]
  refine ih (k + 1) de d ⟨by omega, by omega, ?_, hl⟩ (by omega)
  have no : ¬ cnSt b (cnTr pt 8 k) := fun h => by
    rcases h with h | h | h
    · exact c1 h
    · exact c2 h
    · exact c3 h
  rw [eG, List.filter_append, List.map_append, List.filter_cons_of_neg (by rw [decide_eq_true_eq]; exact no), List.filter_nil, List.map_nil, List.append_nil, e]
theorem T47_n81 {K : (Int → Int) → Int → Prop} (hb : 0 ≤ b ∧ b ≤ 8) (hK : ∀ ms', shMs ms' 32 ((cnHw hs b).flatMap shWd) → K ms' 32) : ∃ fu : Nat, wX47_next_81 K b hs fu 0 ms 0 := by
  refine wl3 (fun fu k ms n => wX47_next_81 K b hs fu k ms n) (fun k ms n => (0 ≤ k ∧ k ≤ 8) ∧ n = 4 * k ∧ shMs ms n ((aF hs (8 * b) k.toNat).flatMap shWd)) (fun k _ _ => (8 - k).toNat) ?_ 0 ms 0 ⟨by omega, rfl, Int.le_refl 0, rfl⟩
  rintro k ms n ⟨hk, en, hm⟩ fu ih
  try dsimp only
  rw [wX47_next_81]
  refine ⟨fun z => ?_, fun z => ⟨by omega, T47_sayNumber hm (by omega) (fun ms' h' => ⟨by omega, fun k' ek => ?_⟩)⟩⟩
  · have ek : k = 8 := by omega
    rw [ek] at hm en
    rw [en] at hm ⊢
    exact hK ms hm
  · rw [ek]
    refine ih (k + 1) ms' (n + 4) ⟨by omega, by omega, ?_⟩ (by omega)
    rw [show (k + 1).toNat = k.toNat + 1 by omega, aF_s, List.flatMap_append, List.flatMap_cons, List.flatMap_nil, List.append_nil, show 8 * b + (k.toNat : Int) = 8 * b + k by omega]
    exact h'
theorem T47_n110 {K : (Int → Int) → Prop} (hd : 0 ≤ d ∧ d ≤ 40) (hK : ∀ sd', (∀ i, 0 ≤ i → i < d → sd' i = 0) → K sd') : ∃ fu : Nat, wX47_next_110 K d fu 0 sd := by
  refine wl2 (fun fu k sd => wX47_next_110 K d fu k sd) (fun k sd => (0 ≤ k ∧ k ≤ d) ∧ ∀ i, 0 ≤ i → i < k → sd i = 0) (fun k _ => (d - k).toNat) ?_ 0 sd ⟨by omega, fun i i0 i1 => by omega⟩
  rintro k sd ⟨hk, h⟩ fu ih
  try dsimp only
  rw [wX47_next_110]
  refine ⟨fun z => hK sd (fun i i0 i1 => h i i0 (by omega)), fun z => ⟨by omega, fun s2 es => ⟨by omega, fun k' ek => ?_⟩⟩⟩
  rw [ek]
  refine ih (k + 1) s2 ⟨by omega, fun i i0 i1 => ?_⟩ (by omega)
  rw [es]
  by_cases w : i = k
  · rw [w, updI_s]
  · rw [updI_n w]; exact h i i0 (by omega)
/-- the least that is not said -/
theorem T47_n146 {K : Int → Prop} (hd : 0 ≤ d ∧ d ≤ 40) (hl : ∀ i, 0 ≤ i → i < d → 0 ≤ de (128 * i) ∧ de (128 * i) ≤ 99) (he : ∃ i, (0 ≤ i ∧ i < d) ∧ sd i = 0) (hK : ∀ k, 0 ≤ k → k < d → sd k = 0 → (∀ i, 0 ≤ i → i < d → sd i = 0 → qLx (cnRw de k) (cnRw de i)) → K k) : ∃ fu : Nat, wX47_next_146 K de d sd fu (-1) 0 := by
  refine wl2 (fun fu k s => wX47_next_146 K de d sd fu k s) (fun k s => (0 ≤ s ∧ s ≤ d) ∧ ((k = -1 ∧ ∀ i, 0 ≤ i → i < s → ¬ sd i = 0) ∨ (0 ≤ k ∧ k < s ∧ sd k = 0 ∧ ∀ i, 0 ≤ i → i < s → sd i = 0 → qLx (cnRw de k) (cnRw de i)))) (fun _ s => (d - s).toNat) ?_ (-1) 0 ⟨by omega, Or.inl ⟨rfl, fun i i0 i1 => by omega⟩⟩
  rintro k s ⟨hs, h⟩ fu ih
  try dsimp only
  rw [wX47_next_146]
  refine ⟨fun z => ?_, fun z => ⟨by omega, fun e0 => ⟨fun kn => ⟨by omega, fun s' es => ?_⟩, fun kn => ?_⟩, fun e0 => ⟨by omega, fun s' es => ?_⟩⟩⟩
  · rcases h with ⟨_, h⟩ | ⟨k0, k1, ks, h⟩
    · obtain ⟨i, hi, e⟩ := he
      exact absurd e (h i hi.1 (by omega))
    · exact hK k k0 (by omega) ks (fun i i0 i1 => h i i0 (by omega))
  · rw [es]
    refine ih s (s + 1) ⟨by omega, Or.inr ⟨by omega, by omega, e0, fun i i0 i1 ei => ?_⟩⟩ (by omega)
    rcases h with ⟨_, h⟩ | ⟨k0, _⟩
    · by_cases w : i = s
      · rw [w]; exact qLx_r _
      · exact absurd ei (h i i0 (by omega))
    · omega
  · rcases h with ⟨w, _⟩ | ⟨k0, k1, ks, h⟩
    · omega
    · refine T47_isBeforeB (by omega) (by omega) (hl s (by omega) (by omega)) (hl k k0 (by omega)) (fun q => ⟨by omega, fun s' es => ?_⟩) (fun q => ⟨by omega, fun s' es => ?_⟩)
      · rw [es]
        refine ih k (s + 1) ⟨by omega, Or.inr ⟨k0, by omega, ks, fun i i0 i1 ei => ?_⟩⟩ (by omega)
        by_cases w : i = s
        · rw [w]; exact q
        · exact h i i0 (by omega) ei
      · have q' : qLx (cnRw de s) (cnRw de k) := (qLx_tot _ _).resolve_right q
        rw [es]
        refine ih s (s + 1) ⟨by omega, Or.inr ⟨by omega, by omega, e0, fun i i0 i1 ei => ?_⟩⟩ (by omega)
        by_cases w : i = s
        · rw [w]; exact qLx_r _
        · exact qLx_t q' (h i i0 (by omega) ei)
  · rw [es]
    refine ih k (s + 1) ⟨by omega, ?_⟩ (by omega)
    rcases h with ⟨w, h⟩ | ⟨k0, k1, ks, h⟩
    · refine Or.inl ⟨w, fun i i0 i1 => ?_⟩
      by_cases y : i = s
      · rw [y]; exact e0
      · exact h i i0 (by omega)
    · refine Or.inr ⟨k0, by omega, ks, fun i i0 i1 ei => ?_⟩
      by_cases y : i = s
      · rw [y] at ei; exact absurd ei e0
      · exact h i i0 (by omega) ei
theorem T47_n198 {K : (Int → Int) → Int → Prop} (hk : 0 ≤ k ∧ k < 40) (hl : 0 ≤ de (128 * k) ∧ de (128 * k) ≤ 99) (hb : ∀ x ∈ cnRw de k, 0 ≤ x ∧ x < 256) (hm : shMs ms n l) (hn : n ≤ 4200) (hK : ∀ ms', shMs ms' (n + de (128 * k)) (l ++ cnRw de k) → K ms' (n + de (128 * k))) : ∃ fu : Nat, wX47_next_198 K k de fu 1 ms n := by
  obtain ⟨w, ew⟩ : ∃ w, w = de (128 * k) := ⟨_, rfl⟩
  refine wl3 (fun fu i ms n => wX47_next_198 K k de fu i ms n) (fun i ms' n' => (1 ≤ i ∧ i ≤ w + 1) ∧ n' = n + (i - 1) ∧ shMs ms' n' (l ++ aF de (128 * k + 1) (i - 1).toNat)) (fun i _ _ => (w + 1 - i).toNat) ?_ 1 ms n ⟨by omega, by omega, by
    rw [show ((1 : Int) - 1).toNat = 0 by decide, aF, List.append_nil]
    exact hm⟩
  rintro i ms' n' ⟨hi, en, h⟩ fu ih
  try dsimp only
  rw [wX47_next_198, ← ew]
  have h0 := hm.1
  refine ⟨by omega, fun z => ?_, fun z => ⟨by omega, T47_say h (by omega) (fun m2 h2 => ⟨by omega, fun i' ei => ?_⟩)⟩⟩
  · have ei : i = w + 1 := by omega
    have en2 : n' = n + de (128 * k) := by omega
    rw [en2] at h ⊢
    refine hK ms' ?_
    unfold cnRw
    rw [← ew] at h ⊢
    rw [show w.toNat = (i - 1).toNat by omega]
    exact h
  · rw [ei]
    refine ih (i + 1) m2 (n' + 1) ⟨by omega, by omega, ?_⟩ (by omega)
    have hx := hb (de (128 * k + i)) ((aF_mem _ _).2 ⟨128 * k + i, by omega, rfl⟩)
    rw [Int.emod_eq_of_lt hx.1 hx.2, List.append_assoc] at h2
    rw [show (i + 1 - 1).toNat = (i - 1).toNat + 1 by omega, aF_s, show 128 * k + 1 + ((i - 1).toNat : Int) = 128 * k + i by omega]
    exact h2
theorem aF_id_nd {m : Nat} {k : Int} : (aF (fun i : Int => i) k m).Nodup := aF_pw m k (fun i j _ h _ => by omega)
/-- all descriptions are said in order -/
theorem T47_n133 {K : (Int → Int) → Int → (Int → Int) → Prop} (hd : 0 ≤ d ∧ d ≤ 40) (hl : ∀ i, 0 ≤ i → i < d → 0 ≤ de (128 * i) ∧ de (128 * i) ≤ 99) (hb : ∀ i, 0 ≤ i → i < d → ∀ x ∈ cnRw de i, 0 ≤ x ∧ x < 256) (hs : ∀ i, 0 ≤ i → i < d → sd i = 0) (hm : shMs ms 32 l) (hK : ∀ ms' n sd', n ≤ 4200 → shMs ms' n (l ++ (cnS (aF (cnRw de) 0 d.toNat)).flatten) → K ms' n sd') : ∃ fu : Nat, wX47_next_133 K de d fu 0 ms 32 sd := by
  refine wl4 (fun fu k ms n sd => wX47_next_133 K de d fu k ms n sd) (fun k ms n sd => (0 ≤ k ∧ k ≤ d) ∧ n ≤ 32 + 99 * k ∧ ∃ (S : List (List Int)) (R : List Int), shMs ms n (l ++ S.flatten) ∧ S.Pairwise qLx ∧ (S ++ R.map (cnRw de)).Perm (aF (cnRw de) 0 d.toNat) ∧ (S.length : Int) = k ∧ R.Nodup ∧ (∀ i, i ∈ R ↔ (0 ≤ i ∧ i < d) ∧ sd i = 0) ∧ ∀ a ∈ S, ∀ i ∈ R, qLx a (cnRw de i)) (fun k _ _ _ => (d - k).toNat) ?_ 0 ms 32 sd ⟨by omega, by omega, [], aF (fun i => i) 0 d.toNat, by rw [List.flatten_nil, List.append_nil]; exact hm, List.Pairwise.nil, by rw [List.nil_append, aF_map], rfl, aF_id_nd, fun i => ?_, fun a ha => absurd ha (by simp)⟩
  · rintro k ms n sd ⟨hk, hn, S, R, h1, h2, h3, h4, h5, h6, h7⟩ fu ih
    try dsimp only
    rw [wX47_next_133]
    have hlen := h3.length_eq
    rw [List.length_append, List.length_map, aF_len] at hlen
    refine ⟨fun z => ?_, fun z => ?_⟩
    · have eR : R = [] := List.eq_nil_of_length_eq_zero (by omega)
      rw [eR, List.map_nil, List.append_nil] at h3
      refine hK ms n sd (by omega) ?_
      rw [cnS_e (S := S) ⟨h3, h2⟩]
      exact h1
    · have neR : R ≠ [] := fun e => by rw [e] at hlen; simp only [List.length_nil] at hlen; omega
      obtain ⟨i0, hi0⟩ := List.exists_mem_of_ne_nil R neR
      have hi1 := (h6 i0).1 hi0
      refine T47_n146 hd hl ⟨i0, hi1⟩ (fun j j0 j1 js jl => ⟨by omega, fun s2 es => ?_⟩)
      have hj : j ∈ R := (h6 j).2 ⟨⟨j0, j1⟩, js⟩
      refine T47_n198 (by omega) (hl j j0 j1) (hb j j0 j1) h1 (by omega) (fun m2 hm2 => ⟨by omega, fun k' ek => ?_⟩)
      rw [ek]
      have hlj := hl j j0 j1
      refine ih (k + 1) m2 _ s2 ⟨by omega, by omega, S ++ [cnRw de j], R.erase j, ?_, ?_, ?_, ?_, h5.erase j, fun i => ?_, fun a ha i hi => ?_⟩ (by omega)
      · rw [List.flatten_append, List.flatten_cons, List.flatten_nil, List.append_nil, ← List.append_assoc]
        exact hm2
      · rw [List.pairwise_append]
        exact ⟨h2, List.pairwise_singleton _ _, fun a ha b hb => by rw [List.mem_singleton.1 hb]; exact h7 a ha j hj⟩
      · rw [List.append_assoc, List.singleton_append, ← List.map_cons]
        exact (((List.perm_cons_erase hj).symm.map (cnRw de)).append_left S).trans h3
      · rw [List.length_append, List.length_singleton]; omega
      · rw [h5.mem_erase_iff, h6, es, updI_e]
        by_cases w : i = j
        · rw [if_pos w]
          exact ⟨fun h => absurd w h.1, fun h => absurd h.2 (by decide)⟩
        · rw [if_neg w]
          exact ⟨fun h => h.2, fun h => ⟨w, h⟩⟩
      · have hi2 := (h5.mem_erase_iff.1 hi).2
        rcases List.mem_append.1 ha with y | y
        · exact h7 a y i hi2
        · rw [List.mem_singleton.1 y]
          have := (h6 i).1 hi2
          exact jl i this.1.1 this.1.2 this.2
  · rw [aF_mem]
    constructor
    · rintro ⟨j, hj, e⟩
      exact ⟨by omega, hs i (by omega) (by omega)⟩
    · rintro ⟨hi, _⟩
      exact ⟨i, by omega, rfl⟩
theorem T47_n252 {K : (Int → Int) → Prop} (hb : 0 ≤ b ∧ b ≤ 8) (hw : shE8 wd g) (hK : ∀ nw', cnHw nw' b = aF g 0 8 → (∀ i, ¬ (8 * b ≤ i ∧ i < 8 * b + 8) → nw' i = nw i) → K nw') : ∃ fu : Nat, wX47_next_252 K b wd fu 0 nw := by
  refine wl2 (fun fu k q => wX47_next_252 K b wd fu k q) (fun k q => (0 ≤ k ∧ k ≤ 8) ∧ (∀ i, ¬ (8 * b ≤ i ∧ i < 8 * b + 8) → q i = nw i) ∧ ∀ i, 0 ≤ i → i < k → q (8 * b + i) = g i) (fun k _ => (8 - k).toNat) ?_ 0 nw ⟨by omega, fun _ _ => rfl, fun i i0 i1 => by omega⟩
  rintro k q ⟨hk, q1, q2⟩ fu ih
  try dsimp only
  rw [wX47_next_252]
  refine ⟨fun z => hK q (aF_sh (fun i i0 i1 => by rw [q2 i i0 (by omega), Int.zero_add])) q1, fun z => ⟨by omega, fun u eu => ⟨by omega, fun q' eq => ⟨by omega, fun k' ek => ?_⟩⟩⟩⟩
  rw [ek]
  refine ih (k + 1) q' ⟨by omega, fun i hi => by rw [eq, updI_n (by omega)]; exact q1 i hi, fun i i0 i1 => ?_⟩ (by omega)
  rw [eq]
  by_cases w : i = k
  · rw [w, updI_s, eu, hw k (by omega) (by omega)]
  · rw [updI_n (by omega)]; exact q2 i i0 (by omega)
theorem cnHw_o (h : ∀ i, ¬ (8 * b ≤ i ∧ i < 8 * b + 8) → nw i = f i) (ne : ¬ c = b) : cnHw nw c = cnHw f c := aF_c _ _ (fun i i0 i1 => h i (by omega))
theorem T47_next {post : (Int → Int) → (Int → Int) → Int → (Int → Int) → Int → (Int → Int) → (Int → Int) → (Int → Int) → Prop} (hk : ∀ t, 0 ≤ t → t < 64 → kc t = shK t) (hn : cu 8 = n) (h40 : 0 ≤ n ∧ n ≤ 40) (hb : 1 ≤ b ∧ b ≤ nb ∧ nb ≤ 8) (ht : ∀ t ∈ cnGr pt 8 n, cnTp nb t)
  (hp : ∀ nw' de' d ms' z wd' sc' sd', cnHw nw' b = cnNx (cnGr pt 8 n) (cnHw hs) b → (∀ i, ¬ (8 * b ≤ i ∧ i < 8 * b + 8) → nw' i = nw i) → post nw' de' d ms' z wd' sc' sd') : wpX47_next post kc cu pt hs nw de ms wd sc sd b := by
  unfold wpX47_next
  refine T47_n7 hn h40 hb ht (fun de' d hd er hl => ?_)
  refine T47_n81 (by omega) (fun m1 h1 => ?_)
  refine T47_n110 hd (fun sd' h2 => ?_)
  refine T47_n133 hd hl (fun i i0 i1 x hx => ?_) h2 h1 (fun m2 z s2 hz h3 => ?_)
  · have hm : cnRw de' i ∈ aF (cnRw de') 0 d.toNat := (aF_mem _ _).2 ⟨i, by omega, rfl⟩
    rw [er] at hm
    obtain ⟨t, _, e⟩ := List.mem_map.1 hm
    rw [← e] at hx
    exact cnD_b x hx
  · refine T47_digestOf hk ⟨h3.1, by omega⟩ h3.2 (fun m3 wd' sc' _ hw => ?_)
    refine T47_n252 (by omega) hw (fun nw' e f => hp nw' de' d m3 z wd' sc' s2 ?_ f)
    rw [e, er]
    rfl
end

/-! CanonNames, the reference (X47): hashes of all blanks -/
/-- alike on the blanks 1 .. n -/
def cnEq (n : Int) (H G : Int → List Int) : Prop := ∀ b, 1 ≤ b → b ≤ n → H b = G b
section
variable {H G : Int → List Int} {n b : Int} {L : List qA} {t : qA} {v : Int}
theorem cnDe_c (h : cnEq n H G) (hv : cnPt n v) : cnDe H b v = cnDe G b v := by
  unfold cnDe
  unfold cnPt at hv
  by_cases z : 0 < v
  · rw [if_pos z, if_pos z]
  · rw [if_neg z, if_neg z, h (-v) (by omega) (by omega)]
theorem cnM_c (h : cnEq n H G) (hb : 1 ≤ b ∧ b ≤ n) (ht : ∀ t ∈ L, cnTp n t) : cnM H L b = cnM G L b := by
  unfold cnM
  rw [h b hb.1 hb.2]
  have e : (L.filter (fun t => cnSt b t)).map (cnD H b) = (L.filter (fun t => cnSt b t)).map (cnD G b) := by
    refine List.map_congr_left (fun t hm => ?_)
    obtain ⟨h1, h2, h3⟩ := ht t (List.mem_filter.1 hm).1
    unfold cnD
    rw [cnDe_c h h1, cnDe_c h h2, cnDe_c h h3]
  rw [e]
theorem cnNx_c (h : cnEq n H G) (ht : ∀ t ∈ L, cnTp n t) : cnEq n (cnNx L H) (cnNx L G) := fun b b0 b1 => by
  unfold cnNx
  rw [cnM_c h ⟨b0, b1⟩ ht]
theorem cnF_c (h : cnEq n H G) (hb : b ≤ n) : cnF H b ↔ cnF G b := by
  unfold cnF
  constructor
  · rintro ⟨b1, hf⟩
    exact ⟨b1, fun c c1 cb => by rw [← h c c1 (by omega), ← h b b1 hb]; exact hf c c1 cb⟩
  · rintro ⟨b1, hf⟩
    exact ⟨b1, fun c c1 cb => by rw [h c c1 (by omega), h b b1 hb]; exact hf c c1 cb⟩
theorem cnDf_c (h : cnEq n H G) : cnDf H n = cnDf G n := cntI_c (fun i i0 i1 => cnF_c h (by omega))
theorem cnRo_c (ht : ∀ t ∈ L, cnTp n t) : ∀ (p : Nat) (H G : Int → List Int) (r : Int), cnEq n H G → cnEq n (cnRo L n p H r).1 (cnRo L n p G r).1 ∧ (cnRo L n p H r).2 = (cnRo L n p G r).2
  | 0, _, _, _, h => ⟨h, rfl⟩
  | p + 1, H, G, r, h => by
    have hx := cnNx_c h ht
    rw [cnRo, cnRo, cnDf_c h, cnDf_c hx]
    split
    · exact ⟨hx, rfl⟩
    · split
      · exact ⟨h, rfl⟩
      · exact cnRo_c ht p _ _ _ hx
end
section
variable {bl cu pt hs nw de ms sa sd kc wd sc f g : Int → Int} {a b c d e k n m p q r s t v x y z nb : Int} {A B : Prop} {L : List qA} {l : List Int} {H : Int → List Int}
/-- two hashes by their first difference -/
theorem cnHw_k (hk : 0 ≤ k ∧ k < 8) (he : ∀ i, 0 ≤ i → i < k → f (8 * a + i) = f (8 * b + i)) (h : f (8 * a + k) < f (8 * b + k)) : cnL (cnHw f) a b := by
  refine ⟨?_, fun e => ?_⟩
  · unfold cnHw
    rw [qLx_cut (q := k.toNat) (by omega) (by omega) (fun i i0 i1 => he i i0 (by omega)), show 8 - k.toNat = (7 - k.toNat) + 1 by omega, aF, aF, show 8 * a + (k.toNat : Int) = 8 * a + k by omega, show 8 * b + (k.toNat : Int) = 8 * b + k by omega]
    exact Or.inl h
  · have := ((aF_eq 8 8 _ _).1 e).2 k (by omega) (by omega)
    omega
theorem T47_cmp_news {post : Int → Prop} (ha : 0 ≤ a ∧ a ≤ 8) (hb : 0 ≤ b ∧ b ≤ 8) (h0 : cnHw f a = cnHw f b → post 0) (h1 : cnL (cnHw f) a b → post (-1)) (h2 : cnL (cnHw f) b a → post 1) : wpX47_compare_news post f a b := by
  unfold wpX47_compare_news
  refine wloop (fun fu k => wX47_compare_news_2 _ (post 0) a b f fu k) (fun k => (0 ≤ k ∧ k ≤ 8) ∧ ∀ i, 0 ≤ i → i < k → f (8 * a + i) = f (8 * b + i)) (fun k => (8 - k).toNat) ?_ 0 ⟨by omega, fun i i0 i1 => by omega⟩
  rintro k ⟨hk, he⟩ fu ih
  try dsimp only
  rw [wX47_compare_news_2]
  refine ⟨fun z => h0 (aF_sh (fun i i0 i1 => he i i0 (by omega))), fun z => ⟨by omega, by omega, fun e => ⟨by omega, fun k' ek => ?_⟩, fun e => ⟨by omega, by omega, fun w => h2 (cnHw_k (k := k) (by omega) (fun i i0 i1 => (he i i0 i1).symm) (by omega)), fun w => h1 (cnHw_k (k := k) (by omega) he (by omega))⟩⟩⟩
  rw [ek]
  refine ih (k + 1) ⟨by omega, fun i i0 i1 => ?_⟩ (by omega)
  by_cases w : i = k
  · rw [w]; exact e
  · exact he i i0 (by omega)
theorem T47_diff_news {post : Int → Prop} (hb : bl 8 = n) (hn : 0 ≤ n ∧ n ≤ 8) (hp : post (cnDf (cnHw f) n)) : wpX47_different_news post bl f := by
  unfold wpX47_different_news
  refine wl2 (fun fu x a => wX47_different_news_4 (fun x => post x) bl f fu x a) (fun x a => (1 ≤ a ∧ a ≤ n + 1) ∧ x = cntI (cnF (cnHw f)) a.toNat) (fun _ a => (n + 1 - a).toNat) ?_ 0 1 ⟨by omega, ?_⟩
  · rintro x a ⟨ha, ex⟩ fu ih
    try dsimp only
    rw [wX47_different_news_4, hb]
    have bx := cntI_b (cnF (cnHw f)) a.toNat
    refine ⟨fun z => ?_, fun z => ?_⟩
    · have ea : a = n + 1 := by omega
      rw [ea] at ex
      rw [ex]
      exact hp
    refine wl2 (fun fu y b => wX47_different_news_21 _ a f fu y b) (fun y b => (1 ≤ b ∧ b ≤ a) ∧ ((y = 1 ∧ ∀ c, 1 ≤ c → c < b → ¬ cnHw f c = cnHw f a) ∨ (y = 0 ∧ ∃ c, (1 ≤ c ∧ c < b) ∧ cnHw f c = cnHw f a))) (fun _ b => (a - b).toNat) ?_ 1 1 ⟨by omega, Or.inl ⟨rfl, fun c c1 c2 => by omega⟩⟩
    rintro y b ⟨hb2, h⟩ fu2 ih2
    try dsimp only
    rw [wX47_different_news_21]
    refine ⟨fun w => ⟨fun y0 => ⟨by omega, fun x' ex' => ⟨by omega, fun a' ea' => ?_⟩⟩, fun y0 => ⟨by omega, fun x' ex' => ⟨by omega, fun a' ea' => ?_⟩⟩⟩, fun w => ⟨fun y0 => ⟨by omega, fun b' eb => ?_⟩, fun y0 => T47_cmp_news (by omega) (by omega) (fun e => ⟨fun _ => ⟨by omega, fun b' eb => ?_⟩, fun u => absurd rfl u⟩) (fun e => ⟨fun u => absurd u (by decide), fun _ => ⟨by omega, fun b' eb => ?_⟩⟩) (fun e => ⟨fun u => absurd u (by decide), fun _ => ⟨by omega, fun b' eb => ?_⟩⟩)⟩⟩
    · rw [ea', ex']
      refine ih (x + 0) (a + 1) ⟨by omega, ?_⟩ (by omega)
      rcases h with ⟨y1, _⟩ | ⟨_, c, hc, e⟩
      · omega
      · rw [cntI_f (by omega) (fun F => F.2 c hc.1 (by omega) e), ← ex, Int.add_zero]
    · rw [ea', ex']
      refine ih (x + 1) (a + 1) ⟨by omega, ?_⟩ (by omega)
      rcases h with ⟨_, h⟩ | ⟨y1, _⟩
      · rw [cntI_t (by omega) ⟨by omega, fun c c1 ca => h c c1 (by omega)⟩, ← ex]
      · omega
    · rw [eb]
      rcases h with ⟨y1, _⟩ | ⟨_, c, hc, e⟩
      · omega
      · exact ih2 0 (b + 1) ⟨by omega, Or.inr ⟨rfl, c, by omega, e⟩⟩ (by omega)
    · rw [eb]
      exact ih2 0 (b + 1) ⟨by omega, Or.inr ⟨rfl, b, by omega, e.symm⟩⟩ (by omega)
    all_goals
      rw [eb]
      rcases h with ⟨_, h⟩ | ⟨y1, _⟩
      · refine ih2 1 (b + 1) ⟨by omega, Or.inl ⟨rfl, fun c c1 cb => ?_⟩⟩ (by omega)
        by_cases u : c = b
        · rw [u]
          first
          | exact fun z => e.2 z.symm
          | exact e.2
        · exact h c c1 (by omega)
      · omega
  · have h0 : cntI (cnF (cnHw f)) ((0 : Int) + 1).toNat = cntI (cnF (cnHw f)) (0 : Int).toNat := cntI_f (by decide) (fun F => absurd F.1 (by decide))
    exact h0.symm
theorem T47_cmp_hashes {post : Int → Prop} (ha : 0 ≤ a ∧ a ≤ 8) (hb : 0 ≤ b ∧ b ≤ 8) (h0 : cnHw f a = cnHw f b → post 0) (h1 : cnL (cnHw f) a b → post (-1)) (h2 : cnL (cnHw f) b a → post 1) : wpX47_compare_hashes post f a b := by
  unfold wpX47_compare_hashes
  refine wloop (fun fu k => wX47_compare_hashes_2 _ (post 0) a b f fu k) (fun k => (0 ≤ k ∧ k ≤ 8) ∧ ∀ i, 0 ≤ i → i < k → f (8 * a + i) = f (8 * b + i)) (fun k => (8 - k).toNat) ?_ 0 ⟨by omega, fun i i0 i1 => by omega⟩
  rintro k ⟨hk, he⟩ fu ih
  try dsimp only
  rw [wX47_compare_hashes_2]
  refine ⟨fun z => h0 (aF_sh (fun i i0 i1 => he i i0 (by omega))), fun z => ⟨by omega, by omega, fun e => ⟨by omega, fun k' ek => ?_⟩, fun e => ⟨by omega, by omega, fun w => h2 (cnHw_k (k := k) (by omega) (fun i i0 i1 => (he i i0 i1).symm) (by omega)), fun w => h1 (cnHw_k (k := k) (by omega) he (by omega))⟩⟩⟩
  rw [ek]
  refine ih (k + 1) ⟨by omega, fun i i0 i1 => ?_⟩ (by omega)
  by_cases w : i = k
  · rw [w]; exact e
  · exact he i i0 (by omega)
theorem T47_diff_hashes {post : Int → Prop} (hb : bl 8 = n) (hn : 0 ≤ n ∧ n ≤ 8) (hp : post (cnDf (cnHw f) n)) : wpX47_different_hashes post bl f := by
  unfold wpX47_different_hashes
  refine wl2 (fun fu x a => wX47_different_hashes_4 (fun x => post x) bl f fu x a) (fun x a => (1 ≤ a ∧ a ≤ n + 1) ∧ x = cntI (cnF (cnHw f)) a.toNat) (fun _ a => (n + 1 - a).toNat) ?_ 0 1 ⟨by omega, ?_⟩
  · rintro x a ⟨ha, ex⟩ fu ih
    try dsimp only
    rw [wX47_different_hashes_4, hb]
    have bx := cntI_b (cnF (cnHw f)) a.toNat
    refine ⟨fun z => ?_, fun z => ?_⟩
    · have ea : a = n + 1 := by omega
      rw [ea] at ex
      rw [ex]
      exact hp
    refine wl2 (fun fu y b => wX47_different_hashes_21 _ a f fu y b) (fun y b => (1 ≤ b ∧ b ≤ a) ∧ ((y = 1 ∧ ∀ c, 1 ≤ c → c < b → ¬ cnHw f c = cnHw f a) ∨ (y = 0 ∧ ∃ c, (1 ≤ c ∧ c < b) ∧ cnHw f c = cnHw f a))) (fun _ b => (a - b).toNat) ?_ 1 1 ⟨by omega, Or.inl ⟨rfl, fun c c1 c2 => by omega⟩⟩
    rintro y b ⟨hb2, h⟩ fu2 ih2
    try dsimp only
    rw [wX47_different_hashes_21]
    refine ⟨fun w => ⟨fun y0 => ⟨by omega, fun x' ex' => ⟨by omega, fun a' ea' => ?_⟩⟩, fun y0 => ⟨by omega, fun x' ex' => ⟨by omega, fun a' ea' => ?_⟩⟩⟩, fun w => ⟨fun y0 => ⟨by omega, fun b' eb => ?_⟩, fun y0 => T47_cmp_hashes (by omega) (by omega) (fun e => ⟨fun _ => ⟨by omega, fun b' eb => ?_⟩, fun u => absurd rfl u⟩) (fun e => ⟨fun u => absurd u (by decide), fun _ => ⟨by omega, fun b' eb => ?_⟩⟩) (fun e => ⟨fun u => absurd u (by decide), fun _ => ⟨by omega, fun b' eb => ?_⟩⟩)⟩⟩
    · rw [ea', ex']
      refine ih (x + 0) (a + 1) ⟨by omega, ?_⟩ (by omega)
      rcases h with ⟨y1, _⟩ | ⟨_, c, hc, e⟩
      · omega
      · rw [cntI_f (by omega) (fun F => F.2 c hc.1 (by omega) e), ← ex, Int.add_zero]
    · rw [ea', ex']
      refine ih (x + 1) (a + 1) ⟨by omega, ?_⟩ (by omega)
      rcases h with ⟨_, h⟩ | ⟨y1, _⟩
      · rw [cntI_t (by omega) ⟨by omega, fun c c1 ca => h c c1 (by omega)⟩, ← ex]
      · omega
    · rw [eb]
      rcases h with ⟨y1, _⟩ | ⟨_, c, hc, e⟩
      · omega
      · exact ih2 0 (b + 1) ⟨by omega, Or.inr ⟨rfl, c, by omega, e⟩⟩ (by omega)
    · rw [eb]
      exact ih2 0 (b + 1) ⟨by omega, Or.inr ⟨rfl, b, by omega, e.symm⟩⟩ (by omega)
    all_goals
      rw [eb]
      rcases h with ⟨_, h⟩ | ⟨y1, _⟩
      · refine ih2 1 (b + 1) ⟨by omega, Or.inl ⟨rfl, fun c c1 cb => ?_⟩⟩ (by omega)
        by_cases u : c = b
        · rw [u]
          first
          | exact fun z => e.2 z.symm
          | exact e.2
        · exact h c c1 (by omega)
      · omega
  · have h0 : cntI (cnF (cnHw f)) ((0 : Int) + 1).toNat = cntI (cnF (cnHw f)) (0 : Int).toNat := cntI_f (by decide) (fun F => absurd F.1 (by decide))
    exact h0.symm
theorem T47_h30 {K : (Int → Int) → Prop} (hb : 0 ≤ b ∧ b ≤ 8) (hw : shE8 wd g) (hK : ∀ nw', cnHw nw' b = aF g 0 8 → (∀ i, ¬ (8 * b ≤ i ∧ i < 8 * b + 8) → nw' i = nw i) → K nw') : ∃ fu : Nat, wX47_makeHashes_30 K b wd fu 0 nw := by
  refine wl2 (fun fu k q => wX47_makeHashes_30 K b wd fu k q) (fun k q => (0 ≤ k ∧ k ≤ 8) ∧ (∀ i, ¬ (8 * b ≤ i ∧ i < 8 * b + 8) → q i = nw i) ∧ ∀ i, 0 ≤ i → i < k → q (8 * b + i) = g i) (fun k _ => (8 - k).toNat) ?_ 0 nw ⟨by omega, fun _ _ => rfl, fun i i0 i1 => by omega⟩
  rintro k q ⟨hk, q1, q2⟩ fu ih
  try dsimp only
  rw [wX47_makeHashes_30]
  refine ⟨fun z => hK q (aF_sh (fun i i0 i1 => by rw [q2 i i0 (by omega), Int.zero_add])) q1, fun z => ⟨by omega, fun u eu => ⟨by omega, fun q' eq => ⟨by omega, fun k' ek => ?_⟩⟩⟩⟩
  rw [ek]
  refine ih (k + 1) q' ⟨by omega, fun i hi => by rw [eq, updI_n (by omega)]; exact q1 i hi, fun i i0 i1 => ?_⟩ (by omega)
  rw [eq]
  by_cases w : i = k
  · rw [w, updI_s, eu, hw k (by omega) (by omega)]
  · rw [updI_n (by omega)]; exact q2 i i0 (by omega)
theorem T47_h23 {K : (Int → Int) → Prop} (hn : 0 ≤ n ∧ n ≤ 8) (hw : shE8 wd g) (hK : ∀ hs', cnEq n (cnHw hs') (fun _ => aF g 0 8) → K hs') : ∃ fu : Nat, wX47_makeHashes_23 K n wd fu 1 hs := by
  refine wl2 (fun fu b hs => wX47_makeHashes_23 K n wd fu b hs) (fun b hs => (1 ≤ b ∧ b ≤ n + 1) ∧ cnEq (b - 1) (cnHw hs) (fun _ => aF g 0 8)) (fun b _ => (n + 1 - b).toNat) ?_ 1 hs ⟨by omega, fun b b0 b1 => by omega⟩
  rintro b hs ⟨hb, h⟩ fu ih
  try dsimp only
  rw [wX47_makeHashes_23]
  refine ⟨fun z => hK hs (fun c c0 c1 => h c c0 (by omega)), fun z => T47_h30 (by omega) hw (fun hs' e f => ⟨by omega, fun b' eb => ?_⟩)⟩
  rw [eb]
  refine ih (b + 1) hs' ⟨by omega, fun c c0 c1 => ?_⟩ (by omega)
  by_cases w : c = b
  · rw [w]; exact e
  · rw [cnHw_o f w]; exact h c c0 (by omega)
theorem T47_h78 {K : (Int → Int) → (Int → Int) → Int → (Int → Int) → Int → (Int → Int) → (Int → Int) → (Int → Int) → Prop} (hk : ∀ t, 0 ≤ t → t < 64 → kc t = shK t) (hc : cu 8 = m) (h40 : 0 ≤ m ∧ m ≤ 40) (hn : 0 ≤ n ∧ n ≤ 8) (ht : ∀ t ∈ cnGr pt 8 m, cnTp n t)
  (hK : ∀ nw' de' d ms' z wd' sc' sd', cnEq n (cnHw nw') (cnNx (cnGr pt 8 m) (cnHw hs)) → K nw' de' d ms' z wd' sc' sd') : ∀ (p : Nat) (b : Int) nw de d ms z wd sc sd, b + p = n + 1 → 1 ≤ b → cnEq (b - 1) (cnHw nw) (cnNx (cnGr pt 8 m) (cnHw hs)) → wX47_makeHashes_78 K n kc cu pt hs (p + 1) b nw de d ms z wd sc sd
  | 0, b, nw, de, d, ms, z, wd, sc, sd, e, hb, h => by
    rw [wX47_makeHashes_78]
    exact ⟨fun _ => hK _ _ _ _ _ _ _ _ (fun c c0 c1 => h c c0 (by omega)), fun w => by omega⟩
  | p + 1, b, nw, de, d, ms, z, wd, sc, sd, e, hb, h => by
    rw [wX47_makeHashes_78]
    refine ⟨fun w => by omega, fun _ => T47_next hk hc h40 ⟨hb, by omega, hn.2⟩ ht (fun nw' de' d' ms' z' wd' sc' sd' e2 f2 => ⟨by omega, fun b' eb => ?_⟩)⟩
    rw [eb]
    refine T47_h78 hk hc h40 hn ht hK p (b + 1) _ _ _ _ _ _ _ _ (by omega) (by omega) (fun c c0 c1 => ?_)
    by_cases w : c = b
    · rw [w]; exact e2
    · rw [cnHw_o f2 w]; exact h c c0 (by omega)
theorem T47_h137 {K : (Int → Int) → Prop} (hx : x = 0 ∨ x = 1) (h0 : x = 0 → K hs) (h1 : x = 1 → ∀ hs', (∀ i, 0 ≤ i → i < 72 → hs' i = nw i) → K hs') : ∃ fu : Nat, wX47_makeHashes_137 K x nw fu 0 hs := by
  rcases hx with hx | hx
  · refine ⟨1, ?_⟩
    rw [wX47_makeHashes_137]
    exact ⟨fun z => absurd z (by decide), fun _ => ⟨fun _ => h0 hx, fun z => absurd hx z⟩⟩
  · refine wl2 (fun fu k q => wX47_makeHashes_137 K x nw fu k q) (fun k q => (0 ≤ k ∧ k ≤ 72) ∧ ∀ i, 0 ≤ i → i < k → q i = nw i) (fun k _ => (72 - k).toNat) ?_ 0 hs ⟨by omega, fun i i0 i1 => by omega⟩
    rintro k q ⟨hk, h⟩ fu ih
    try dsimp only
    rw [wX47_makeHashes_137]
    refine ⟨fun z => h1 hx q (fun i i0 i1 => h i i0 (by omega)), fun z => ⟨fun w => by omega, fun _ => ⟨by omega, fun u eu q' eq => ⟨by omega, fun k' ek => ?_⟩⟩⟩⟩
    rw [ek]
    refine ih (k + 1) q' ⟨by omega, fun i i0 i1 => ?_⟩ (by omega)
    rw [eq]
    by_cases w : i = k
    · rw [w, updI_s, eu]
    · rw [updI_n w]; exact h i i0 (by omega)
theorem T47_h72 {K : (Int → Int) → (Int → Int) → Int → (Int → Int) → Int → (Int → Int) → Int → (Int → Int) → (Int → Int) → (Int → Int) → Prop} (hk : ∀ t, 0 ≤ t → t < 64 → kc t = shK t) (hbl : bl 8 = n) (hc : cu 8 = m) (h40 : 0 ≤ m ∧ m ≤ 40) (hn : 0 ≤ n ∧ n ≤ 8) (ht : ∀ t ∈ cnGr pt 8 m, cnTp n t) {R : (Int → List Int) × Int}
  (hK : ∀ hs' nw' de' d ms' z wd' sc' sd', cnEq n (cnHw hs') R.1 → K hs' nw' R.2 de' d ms' z wd' sc' sd') : ∀ (p : Nat) (hs nw : Int → Int) (H : Int → List Int) (r : Int) de d ms z wd sc sd, cnEq n (cnHw hs) H → n + 2 ≤ cnDf H n + p → 0 ≤ r → r + p ≤ 100 → cnRo (cnGr pt 8 m) n p H r = R → wX47_makeHashes_72 K n kc bl cu pt (p + 1) 1 hs nw r de d ms z wd sc sd
  | 0, hs, nw, H, r, de, d, ms, z, wd, sc, sd, hH, hp, _, _, _ => by
    have := cnDf_b (H := H) hn.1
    omega
  | p + 1, hs, nw, H, r, de, d, ms, z, wd, sc, sd, hH, hp, hr, hr2, eR => by
    rw [wX47_makeHashes_72]
    refine ⟨fun w => absurd w (by decide), fun _ => ⟨_, T47_h78 hk hc h40 hn ht (fun nw' de' d' ms' z' wd' sc' sd' hx => ⟨by omega, fun r' er => ?_⟩) n.toNat 1 nw de d ms z wd sc sd (by omega) (by decide) (fun c c0 c1 => by omega)⟩⟩
    have hx2 : cnEq n (cnHw nw') (cnNx (cnGr pt 8 m) H) := fun b b0 b1 => by rw [hx b b0 b1]; exact cnNx_c hH ht b b0 b1
    have nwq : ∀ q : Int → Int, (∀ i, 0 ≤ i → i < 72 → q i = nw' i) → cnEq n (cnHw q) (cnNx (cnGr pt 8 m) H) := fun q hq b b0 b1 => by
      rw [← hx2 b b0 b1]
      exact aF_c _ _ (fun i i0 i1 => hq i (by omega) (by omega))
    rw [cnRo] at eR
    have last : ∀ q : Int → Int, cnEq n (cnHw q) R.1 → r' = R.2 → ∀ a1 a2 a3 a4 a5 a6 a7 a8, wX47_makeHashes_72 K n kc bl cu pt (p + 1) 0 q a1 r' a2 a3 a4 a5 a6 a7 a8 := fun q hq e a1 a2 a3 a4 a5 a6 a7 a8 => by
      rw [wX47_makeHashes_72]
      exact ⟨fun _ => by rw [e]; exact hK q _ _ _ _ _ _ _ _ hq, fun w => absurd rfl w⟩
    refine ⟨fun w => ?_, fun w => ?_⟩
    · rw [if_pos w] at eR
      refine T47_h137 (Or.inr rfl) (fun y => absurd y (by decide)) (fun _ q hq => ?_)
      unfold wX47_makeHashes_168
      exact ⟨fun y => absurd y (by decide), fun _ => ⟨fun _ => last q (by rw [← eR]; exact nwq q hq) (by rw [← eR]; exact er) _ _ _ _ _ _ _ _, fun y => by omega⟩⟩
    · rw [if_neg w] at eR
      refine T47_diff_news hbl hn (T47_diff_hashes hbl hn ?_)
      rw [cnDf_c hx2, cnDf_c hH]
      refine ⟨fun y => ?_, fun y => ?_⟩
      · rw [if_pos y] at eR
        refine T47_h137 (Or.inl rfl) (fun _ => ?_) (fun y2 => absurd y2 (by decide))
        unfold wX47_makeHashes_168
        exact ⟨fun _ => last hs (by rw [← eR]; exact hH) (by rw [← eR]; exact er) _ _ _ _ _ _ _ _, fun y2 => absurd rfl y2⟩
      · rw [if_neg y] at eR
        refine T47_h137 (Or.inr rfl) (fun y2 => absurd y2 (by decide)) (fun _ q hq => ?_)
        unfold wX47_makeHashes_168
        refine ⟨fun y2 => absurd y2 (by decide), fun _ => ⟨fun y2 => by omega, fun _ => ?_⟩⟩
        rw [er]
        exact T47_h72 hk hbl hc h40 hn ht hK p q nw' _ (r + 1) _ _ _ _ _ _ _ (nwq q hq) (by omega) (by omega) (by omega) eR
end

/-! CanonNames, the reference (X47): groups -/
section
variable {H G : Int → List Int} {n a b c d t : Int} {L : List qA}
theorem cnL_c (h : cnEq n H G) (ha : 1 ≤ a ∧ a ≤ n) (hb : 1 ≤ b ∧ b ≤ n) : cnL H a b ↔ cnL G a b := by
  unfold cnL
  rw [h a ha.1 ha.2, h b hb.1 hb.2]
theorem cnG_c (h : cnEq n H G) (hb : 1 ≤ b ∧ b ≤ n) : cnG H n b = cnG G n b := cntI_c (fun i i0 i1 => by
  constructor
  · rintro ⟨f, l⟩
    exact ⟨(cnF_c h (by omega)).1 f, (cnL_c h ⟨f.1, by omega⟩ hb).1 l⟩
  · rintro ⟨f, l⟩
    exact ⟨(cnF_c h (by omega)).2 f, (cnL_c h ⟨f.1, by omega⟩ hb).2 l⟩)
theorem cnLo_c (h : cnEq n H G) (hb : 1 ≤ b ∧ b ≤ n) : cnLo H n b = cnLo G n b := cntI_c (fun i i0 i1 => by
  constructor
  · rintro ⟨f, l⟩
    exact ⟨f, (cnL_c h ⟨f, by omega⟩ hb).1 l⟩
  · rintro ⟨f, l⟩
    exact ⟨f, (cnL_c h ⟨f, by omega⟩ hb).2 l⟩)
theorem cnHi_c (h : cnEq n H G) (hb : 1 ≤ b ∧ b ≤ n) : cnHi H n b = cnHi G n b := cntI_c (fun i i0 i1 => by
  constructor
  · rintro ⟨f, l⟩
    rw [h i f (by omega), h b hb.1 hb.2] at l
    exact ⟨f, l⟩
  · rintro ⟨f, l⟩
    rw [← h i f (by omega), ← h b hb.1 hb.2] at l
    exact ⟨f, l⟩)
theorem cntI_1 : ∀ m : Nat, cntI (fun b => 1 ≤ b) (m + 1) = m
  | 0 => by rw [cntI, cntI, pif_f (by decide)]; rfl
  | m + 1 => by rw [cntI, cntI_1 m, pif_t (by show (1 : Int) ≤ ((m + 1 : Nat) : Int); omega)]; omega
theorem cntI_1n (hn : 0 ≤ n) : cntI (fun b => 1 ≤ b) (n + 1).toNat = n := by
  rw [show (n + 1).toNat = n.toNat + 1 by omega, cntI_1]; omega
/-- the first with b's hash -/
theorem cnF_ex : ∀ (m : Nat) (b : Int), 1 ≤ b → b ≤ m → ∃ c, cnF H c ∧ H c = H b ∧ c ≤ b
  | 0, b, h0, h1 => by omega
  | m + 1, b, h0, h1 => by
    by_cases z : ∃ c, (1 ≤ c ∧ c < b) ∧ H c = H b
    · obtain ⟨c, hc, e⟩ := z
      obtain ⟨d, f, e2, l⟩ := cnF_ex m c hc.1 (by omega)
      exact ⟨d, f, e2.trans e, by omega⟩
    · exact ⟨b, ⟨h0, fun c c0 c1 e => z ⟨c, ⟨c0, c1⟩, e⟩⟩, rfl, Int.le_refl _⟩
theorem cnF_u (h : cnF H a) (g : cnF H b) (e : H a = H b) : a = b := by
  rcases Int.lt_trichotomy a b with z | z | z
  · exact absurd e (g.2 a h.1 z)
  · exact z
  · exact absurd e.symm (h.2 b g.1 z)
end
section
variable {bl cu pt hs nw de ms sa sd kc wd sc f g gr go : Int → Int} {a b c d e k n m p q r s t v x y z nb nu dn gc ro hd : Int} {A B : Prop} {L : List qA} {l : List Int} {H : Int → List Int}
/-- how far the groups are made -/
def cnGi (H : Int → List Int) (n nu dn : Int) (gr go : Int → Int) (gc : Int) : Prop :=
  nu = dn + 1 ∧ (∀ b, 1 ≤ b → b ≤ n → gr b = -1 ∨ (0 ≤ gr b ∧ gr b = cnG H n b ∧ gr b < gc)) ∧ (∀ b c, (1 ≤ b ∧ b ≤ n) → (1 ≤ c ∧ c ≤ n) → 0 ≤ gr b → ¬ 0 ≤ gr c → cnL H b c) ∧
  dn = cntI (fun b => 1 ≤ b ∧ 0 ≤ gr b) (n + 1).toNat ∧ gc = cntI (fun b => cnF H b ∧ 0 ≤ gr b) (n + 1).toNat ∧ (∀ t, 1 ≤ t → t < nu → 0 ≤ go t ∧ go t < gc) ∧
  ∀ b t, (1 ≤ b ∧ b ≤ n) → 0 ≤ gr b → 1 ≤ t → t < nu → (go t = cnG H n b ↔ cnLo H n b < t ∧ t ≤ cnHi H n b)
theorem cnDn_le (hn : 0 ≤ n) : cntI (fun b => 1 ≤ b ∧ 0 ≤ gr b) (n + 1).toNat ≤ n := by
  have := cntI_ler (p := fun b => 1 ≤ b ∧ 0 ≤ gr b) (q := fun b => 1 ≤ b) (n + 1).toNat (fun i _ _ h => h.1)
  rw [cntI_1n hn] at this
  exact this
theorem cnDn_lt (hb : 1 ≤ b ∧ b ≤ n) (h : ¬ 0 ≤ gr b) : cntI (fun b => 1 ≤ b ∧ 0 ≤ gr b) (n + 1).toNat + 1 ≤ n := by
  have := cntI_ltr (p := fun b => 1 ≤ b ∧ 0 ≤ gr b) (q := fun b => 1 ≤ b) (j := b) (n + 1).toNat (fun i _ _ h => h.1) (by omega) (by omega) hb.1 (fun w => h w.2)
  rw [cntI_1n (by omega)] at this
  exact this
theorem cnDn_all (hn : 0 ≤ n) (h : ∀ b, 1 ≤ b → b ≤ n → 0 ≤ gr b) : cntI (fun b => 1 ≤ b ∧ 0 ≤ gr b) (n + 1).toNat = n := by
  rw [cntI_c (q := fun b => 1 ≤ b) (fun i i0 i1 => ⟨fun w => w.1, fun w => ⟨w, h i w (by omega)⟩⟩), cntI_1n hn]
theorem T47_g7 {K : (Int → Int) → Prop} (hn : 0 ≤ n ∧ n ≤ 8) (hK : ∀ gr', (∀ b, 1 ≤ b → b ≤ n → gr' b = -1) → K gr') : ∃ fu : Nat, wX47_makeGroups_7 K n fu 1 gr := by
  refine wl2 (fun fu b q => wX47_makeGroups_7 K n fu b q) (fun b q => (1 ≤ b ∧ b ≤ n + 1) ∧ ∀ c, 1 ≤ c → c < b → q c = -1) (fun b _ => (n + 1 - b).toNat) ?_ 1 gr ⟨by omega, fun c c0 c1 => by omega⟩
  rintro b q ⟨hb, h⟩ fu ih
  try dsimp only
  rw [wX47_makeGroups_7]
  refine ⟨fun z => hK q (fun c c0 c1 => h c c0 (by omega)), fun z => ⟨by omega, fun q' eq => ⟨by omega, fun b' eb => ?_⟩⟩⟩
  rw [eb]
  refine ih (b + 1) q' ⟨by omega, fun c c0 c1 => ?_⟩ (by omega)
  rw [eq]
  by_cases w : c = b
  · rw [w, updI_s]
  · rw [updI_n w]; exact h c c0 (by omega)
/-- the least that has no group -/
theorem T47_g40 {K : Int → Prop} (hn : 0 ≤ n ∧ n ≤ 8) (he : ∃ b, (1 ≤ b ∧ b ≤ n) ∧ ¬ 0 ≤ gr b) (hK : ∀ x, (1 ≤ x ∧ x ≤ n) → ¬ 0 ≤ gr x → (∀ c, 1 ≤ c → c ≤ n → ¬ 0 ≤ gr c → qLx (cnHw hs x) (cnHw hs c)) → K x) : ∃ fu : Nat, wX47_makeGroups_40 K n hs gr fu 0 1 := by
  refine wl2 (fun fu x b => wX47_makeGroups_40 K n hs gr fu x b) (fun x b => (1 ≤ b ∧ b ≤ n + 1) ∧ ((x = 0 ∧ ∀ c, 1 ≤ c → c < b → 0 ≤ gr c) ∨ ((1 ≤ x ∧ x < b) ∧ ¬ 0 ≤ gr x ∧ ∀ c, 1 ≤ c → c < b → ¬ 0 ≤ gr c → qLx (cnHw hs x) (cnHw hs c)))) (fun _ b => (n + 1 - b).toNat) ?_ 0 1 ⟨by omega, Or.inl ⟨rfl, fun c c0 c1 => by omega⟩⟩
  rintro x b ⟨hb, h⟩ fu ih
  try dsimp only
  rw [wX47_makeGroups_40]
  refine ⟨fun z => ?_, fun z => ⟨by omega, fun w => ⟨by omega, fun b' eb => ?_⟩, fun w => ⟨fun x0 => ⟨by omega, fun b' eb => ?_⟩, fun x0 => ?_⟩⟩⟩
  · rcases h with ⟨_, h⟩ | ⟨hx, nx, h⟩
    · obtain ⟨c, hc, nc⟩ := he
      exact absurd (h c hc.1 (by omega)) nc
    · exact hK x (by omega) nx (fun c c0 c1 => h c c0 (by omega))
  · rw [eb]
    refine ih x (b + 1) ⟨by omega, ?_⟩ (by omega)
    rcases h with ⟨e, h⟩ | ⟨hx, nx, h⟩
    · refine Or.inl ⟨e, fun c c0 c1 => ?_⟩
      by_cases u : c = b
      · rw [u]; exact w
      · exact h c c0 (by omega)
    · refine Or.inr ⟨by omega, nx, fun c c0 c1 nc => ?_⟩
      by_cases u : c = b
      · rw [u] at nc; exact absurd w nc
      · exact h c c0 (by omega) nc
  · rw [eb]
    rcases h with ⟨e, h⟩ | ⟨hx, _⟩
    · refine ih b (b + 1) ⟨by omega, Or.inr ⟨by omega, w, fun c c0 c1 nc => ?_⟩⟩ (by omega)
      by_cases u : c = b
      · rw [u]; exact qLx_r _
      · exact absurd (h c c0 (by omega)) nc
    · omega
  · rcases h with ⟨e, _⟩ | ⟨hx, nx, h⟩
    · exact absurd e x0
    have stay : qLx (cnHw hs x) (cnHw hs b) → ∀ b' : Int, b' = b + 1 → wX47_makeGroups_40 K n hs gr fu x b' := fun q b' eb => by
      rw [eb]
      refine ih x (b + 1) ⟨by omega, Or.inr ⟨by omega, nx, fun c c0 c1 nc => ?_⟩⟩ (by omega)
      by_cases u : c = b
      · rw [u]; exact q
      · exact h c c0 (by omega) nc
    refine T47_cmp_hashes (by omega) (by omega) (fun e => ⟨fun _ => ⟨by omega, stay (by rw [e]; exact qLx_r _)⟩, fun u => absurd (by decide) u⟩) (fun e => ⟨fun u => absurd u (by decide), fun _ => ⟨by omega, fun b' eb => ?_⟩⟩) (fun e => ⟨fun _ => ⟨by omega, stay e.1⟩, fun u => absurd (by decide) u⟩)
    rw [eb]
    refine ih b (b + 1) ⟨by omega, Or.inr ⟨by omega, w, fun c c0 c1 nc => ?_⟩⟩ (by omega)
    by_cases u : c = b
    · rw [u]; exact qLx_r _
    · exact qLx_t e.1 (h c c0 (by omega) nc)
/-- one group more -/
theorem T47_g88 {K : Int → Int → (Int → Int) → (Int → Int) → Prop} (hn : 0 ≤ n ∧ n ≤ 8) (hx : 1 ≤ x ∧ x ≤ n) (hg : 0 ≤ gc) (e1 : nu = dn + 1) (e2 : dn = cntI (fun b => 1 ≤ b ∧ 0 ≤ gr b) (n + 1).toNat)
  (hK : ∀ nu' dn' gr' go', nu' = dn' + 1 → dn' = cntI (fun b => 1 ≤ b ∧ 0 ≤ gr' b) (n + 1).toNat → nu ≤ nu' → (∀ c, 1 ≤ c → c ≤ n → ((¬ 0 ≤ gr c ∧ cnHw hs c = cnHw hs x) → gr' c = gc) ∧ (¬ (¬ 0 ≤ gr c ∧ cnHw hs c = cnHw hs x) → gr' c = gr c)) → (∀ t, t < nu → go' t = go t) → (∀ t, nu ≤ t → t < nu' → go' t = gc) → K nu' dn' gr' go') : ∃ fu : Nat, wX47_makeGroups_88 K n x hs gc fu nu dn 1 gr go := by
  refine wl5 (fun fu nu dn b gr go => wX47_makeGroups_88 K n x hs gc fu nu dn b gr go) (fun nu' dn' b gr' go' => (1 ≤ b ∧ b ≤ n + 1) ∧ nu' = dn' + 1 ∧ dn' = cntI (fun b => 1 ≤ b ∧ 0 ≤ gr' b) (n + 1).toNat ∧ nu ≤ nu' ∧ (∀ c, 1 ≤ c → c ≤ n → ((c < b ∧ ¬ 0 ≤ gr c ∧ cnHw hs c = cnHw hs x) → gr' c = gc) ∧ (¬ (c < b ∧ ¬ 0 ≤ gr c ∧ cnHw hs c = cnHw hs x) → gr' c = gr c)) ∧ (∀ t, t < nu → go' t = go t) ∧ (∀ t, nu ≤ t → t < nu' → go' t = gc)) (fun _ _ b _ _ => (n + 1 - b).toNat) ?_ nu dn 1 gr go ⟨by omega, e1, e2, Int.le_refl _, fun c c0 c1 => ⟨fun w => by omega, fun _ => rfl⟩, fun _ _ => rfl, fun t t0 t1 => by omega⟩
  rintro nu' dn' b gr' go' ⟨hb, f1, f2, f3, f4, f5, f6⟩ fu ih
  try dsimp only
  rw [wX47_makeGroups_88]
  have d0 := cntI_b (fun b => 1 ≤ b ∧ 0 ≤ gr' b) (n + 1).toNat
  have d1 := cnDn_le (gr := gr') hn.1
  refine ⟨fun z => hK nu' dn' gr' go' f1 f2 f3 (fun c c0 c1 => ⟨fun w => (f4 c c0 c1).1 ⟨by omega, w⟩, fun w => (f4 c c0 c1).2 (fun u => w u.2)⟩) f5 f6, fun z => ⟨by omega, fun w => ⟨by omega, fun b' eb => ?_⟩, fun w => ?_⟩⟩
  · rw [eb]
    refine ih nu' dn' (b + 1) gr' go' ⟨by omega, f1, f2, f3, fun c c0 c1 => ⟨fun u => ?_, fun u => ?_⟩, f5, f6⟩ (by omega)
    · by_cases y : c = b
      · have := (f4 b (by omega) (by omega)).2 (fun v => by omega)
        rw [y] at u
        rw [this] at w
        exact absurd w u.2.1
      · exact (f4 c c0 c1).1 ⟨by omega, u.2⟩
    · exact (f4 c c0 c1).2 (fun v => u ⟨by omega, v.2⟩)
  · have eg := (f4 b (by omega) (by omega)).2 (fun v => by omega)
    have no : ¬ cnHw hs b = cnHw hs x → ∀ b' : Int, b' = b + 1 → wX47_makeGroups_88 K n x hs gc fu nu' dn' b' gr' go' := fun ne b' eb => by
      rw [eb]
      refine ih nu' dn' (b + 1) gr' go' ⟨by omega, f1, f2, f3, fun c c0 c1 => ⟨fun u => ?_, fun u => ?_⟩, f5, f6⟩ (by omega)
      · by_cases y : c = b
        · rw [y] at u; exact absurd u.2.2 ne
        · exact (f4 c c0 c1).1 ⟨by omega, u.2⟩
      · exact (f4 c c0 c1).2 (fun v => u ⟨by omega, v.2⟩)
    have lt := cnDn_lt (gr := gr') (b := b) (n := n) (by omega) w
    refine T47_cmp_hashes (by omega) (by omega) (fun e => ⟨fun _ g2 eg2 => ⟨by omega, fun o2 eo => ⟨by omega, fun n2 en => ⟨by omega, fun d2 ed => ⟨by omega, fun b' eb => ?_⟩⟩⟩⟩, fun u => absurd rfl u⟩) (fun e => ⟨fun u => absurd u (by decide), fun _ => ⟨by omega, no e.2⟩⟩) (fun e => ⟨fun u => absurd u (by decide), fun _ => ⟨by omega, no (fun q => e.2 q.symm)⟩⟩)
    have cn := cntI_u1 (p := fun b => 1 ≤ b ∧ 0 ≤ gr' b) (q := fun b => 1 ≤ b ∧ 0 ≤ g2 b) (x0 := b) (by omega) (fun u => w u.2) ⟨by omega, by rw [eg2, updI_s]; exact hg⟩ (fun c nc => by rw [eg2, updI_n nc]) (n + 1).toNat
    rw [if_pos (by omega)] at cn
    rw [eb]
    refine ih n2 d2 (b + 1) g2 o2 ⟨by omega, by omega, by rw [cn, ed, f2], by omega, fun c c0 c1 => ⟨fun u => ?_, fun u => ?_⟩, fun t t0 => ?_, fun t t0 t1 => ?_⟩ (by omega)
    · rw [eg2]
      by_cases y : c = b
      · rw [y, updI_s]
      · rw [updI_n y]; exact (f4 c c0 c1).1 ⟨by omega, u.2⟩
    · rw [eg2]
      by_cases y : c = b
      · exact absurd ⟨by omega, by rw [y, ← eg]; exact w, by rw [y]; exact e⟩ u
      · rw [updI_n y]; exact (f4 c c0 c1).2 (fun v => u ⟨by omega, v.2⟩)
    · rw [eo, updI_n (by omega)]; exact f5 t t0
    · rw [eo]
      by_cases y : t = nu'
      · rw [y, updI_s]
      · rw [updI_n y]; exact f6 t t0 (by omega)
/-- a group more: what it leaves -/
theorem cnGi_step (hn : 0 ≤ n) (I : cnGi H n nu dn gr go gc) (hx : 1 ≤ x ∧ x ≤ n) (nx : ¬ 0 ≤ gr x) (lx : ∀ c, 1 ≤ c → c ≤ n → ¬ 0 ≤ gr c → qLx (H x) (H c)) {nu' dn' : Int} {gr' go' : Int → Int} (f1 : nu' = dn' + 1) (f2 : dn' = cntI (fun b => 1 ≤ b ∧ 0 ≤ gr' b) (n + 1).toNat) (f3 : nu ≤ nu')
  (f4 : ∀ c, 1 ≤ c → c ≤ n → ((¬ 0 ≤ gr c ∧ H c = H x) → gr' c = gc) ∧ (¬ (¬ 0 ≤ gr c ∧ H c = H x) → gr' c = gr c)) (f5 : ∀ t, t < nu → go' t = go t) (f6 : ∀ t, nu ≤ t → t < nu' → go' t = gc) : cnGi H n nu' dn' gr' go' (gc + 1) ∧ dn < dn' := by
  obtain ⟨i1, i2, i3, i4, i5, i6, i7⟩ := I
  have g0 : 0 ≤ gc := by rw [i5]; exact (cntI_b _ _).1
  have dE : ∀ c, 1 ≤ c → c ≤ n → 0 ≤ gr c → ¬ H c = H x := fun c c0 c1 h e => (i3 c x ⟨c0, c1⟩ hx h nx).2 e
  have up : ∀ c, 1 ≤ c → c ≤ n → (0 ≤ gr' c ↔ 0 ≤ gr c ∨ H c = H x) := fun c c0 c1 => by
    by_cases z : ¬ 0 ≤ gr c ∧ H c = H x
    · rw [(f4 c c0 c1).1 z]
      exact ⟨fun _ => Or.inr z.2, fun _ => g0⟩
    · rw [(f4 c c0 c1).2 z]
      refine ⟨Or.inl, fun h => h.resolve_right (fun e => z ⟨fun w => dE c c0 c1 w e, e⟩)⟩
  have lo : ∀ b c, 1 ≤ c → c ≤ n → H b = H x → (cnL H c b ↔ 0 ≤ gr c) := fun b c c0 c1 e => by
    have e2 : cnL H c b ↔ cnL H c x := by unfold cnL; rw [e]
    rw [e2]
    refine ⟨fun h => ?_, fun h => i3 c x ⟨c0, c1⟩ hx h nx⟩
    by_cases w : 0 ≤ gr c
    · exact w
    · exact absurd h (cnL_n.2 (lx c c0 c1 w))
  have hi : ∀ b c, 1 ≤ c → c ≤ n → H b = H x → (qLx (H c) (H b) ↔ 0 ≤ gr' c) := fun b c c0 c1 e => by
    rw [up c c0 c1, e]
    constructor
    · intro h
      by_cases w : 0 ≤ gr c
      · exact Or.inl w
      · exact Or.inr (qLx_a h (lx c c0 c1 w))
    · rintro (h | h)
      · exact (i3 c x ⟨c0, c1⟩ hx h nx).1
      · rw [h]; exact qLx_r _
  have eG : ∀ b, H b = H x → cnG H n b = gc := fun b e => by
    rw [i5]
    exact cntI_c (fun c c0 c1 => ⟨fun w => ⟨w.1, (lo b c w.1.1 (by omega) e).1 w.2⟩, fun w => ⟨w.1, (lo b c w.1.1 (by omega) e).2 w.2⟩⟩)
  have eLo : ∀ b, H b = H x → cnLo H n b = dn := fun b e => by
    rw [i4]
    exact cntI_c (fun c c0 c1 => ⟨fun w => ⟨w.1, (lo b c w.1 (by omega) e).1 w.2⟩, fun w => ⟨w.1, (lo b c w.1 (by omega) e).2 w.2⟩⟩)
  have eHi : ∀ b, H b = H x → cnHi H n b = dn' := fun b e => by
    rw [f2]
    exact cntI_c (fun c c0 c1 => ⟨fun w => ⟨w.1, (hi b c w.1 (by omega) e).1 w.2⟩, fun w => ⟨w.1, (hi b c w.1 (by omega) e).2 w.2⟩⟩)
  have oHi : ∀ b, (1 ≤ b ∧ b ≤ n) → 0 ≤ gr b → cnHi H n b ≤ dn := fun b hb h => by
    rw [i4]
    refine cntI_ler _ (fun c c0 c1 w => ⟨w.1, ?_⟩)
    by_cases y : 0 ≤ gr c
    · exact y
    · exact absurd w.2 (fun q => cnL_n.2 q (i3 b c hb ⟨w.1, by omega⟩ h y))
  have more : dn + 1 ≤ dn' := by
    rw [i4, f2]
    exact cntI_ltr (j := x) _ (fun c c0 c1 w => ⟨w.1, (up c w.1 (by omega)).2 (Or.inl w.2)⟩) (by omega) (by omega) ⟨hx.1, (up x hx.1 hx.2).2 (Or.inr rfl)⟩ (fun w => nx w.2)
  refine ⟨⟨f1, fun b b0 b1 => ?_, fun b c hb hc h1 h2 => ?_, f2, ?_, fun t t0 t1 => ?_, fun b t hb h t0 t1 => ?_⟩, by omega⟩
  · by_cases z : ¬ 0 ≤ gr b ∧ H b = H x
    · right
      rw [(f4 b b0 b1).1 z, eG b z.2]
      exact ⟨g0, rfl, by omega⟩
    · rw [(f4 b b0 b1).2 z]
      rcases i2 b b0 b1 with w | w
      · exact Or.inl w
      · exact Or.inr ⟨w.1, w.2.1, by omega⟩
  · have c2 : ¬ 0 ≤ gr c := fun w => h2 ((up c hc.1 hc.2).2 (Or.inl w))
    rcases (up b hb.1 hb.2).1 h1 with w | w
    · exact i3 b c hb hc w c2
    · have l := lx c hc.1 hc.2 c2
      unfold cnL
      rw [w]
      exact ⟨l, fun e => h2 ((up c hc.1 hc.2).2 (Or.inr e.symm))⟩
  · obtain ⟨y, fy, ey, ly⟩ := cnF_ex (H := H) x.toNat x hx.1 (by omega)
    have cn := cntI_u1 (p := fun b => (1 ≤ b ∧ b ≤ n) ∧ cnF H b ∧ 0 ≤ gr b) (q := fun b => (1 ≤ b ∧ b ≤ n) ∧ cnF H b ∧ 0 ≤ gr' b) (x0 := y) (by have := fy.1; omega) (fun w => dE y w.1.1 w.1.2 w.2.2 ey) ⟨⟨fy.1, by omega⟩, fy, (up y fy.1 (by omega)).2 (Or.inr ey)⟩ (fun c nc => by
      constructor
      · rintro ⟨w, f, h⟩
        exact ⟨w, f, (up c w.1 w.2).2 (Or.inl h)⟩
      · rintro ⟨w, f, h⟩
        refine ⟨w, f, ((up c w.1 w.2).1 h).resolve_right (fun e => nc (cnF_u f fy (e.trans ey.symm)))⟩) (n + 1).toNat
    rw [if_pos (by have := fy.1; omega)] at cn
    have w1 : cntI (fun b => cnF H b ∧ 0 ≤ gr b) (n + 1).toNat = cntI (fun b => (1 ≤ b ∧ b ≤ n) ∧ cnF H b ∧ 0 ≤ gr b) (n + 1).toNat := cntI_c (fun c c0 c1 => ⟨fun w => ⟨⟨w.1.1, by omega⟩, w⟩, fun w => w.2⟩)
    have w2 : cntI (fun b => cnF H b ∧ 0 ≤ gr' b) (n + 1).toNat = cntI (fun b => (1 ≤ b ∧ b ≤ n) ∧ cnF H b ∧ 0 ≤ gr' b) (n + 1).toNat := cntI_c (fun c c0 c1 => ⟨fun w => ⟨⟨w.1.1, by omega⟩, w⟩, fun w => w.2⟩)
    rw [w2, cn, ← w1, ← i5]
  · by_cases z : t < nu
    · rw [f5 t z]
      have := i6 t t0 z
      omega
    · rw [f6 t (by omega) t1]
      omega
  · by_cases e : H b = H x
    · rw [eG b e, eLo b e, eHi b e]
      by_cases z : t < nu
      · rw [f5 t z]
        have := i6 t t0 z
        constructor
        · intro w; omega
        · intro w; omega
      · rw [f6 t (by omega) t1]
        constructor
        · intro w; omega
        · intro w; rfl
    · have hg : 0 ≤ gr b := ((up b hb.1 hb.2).1 h).resolve_right e
      by_cases z : t < nu
      · rw [f5 t z]; exact i7 b t hb hg t0 z
      · rw [f6 t (by omega) t1]
        have h1 := oHi b hb hg
        rcases i2 b hb.1 hb.2 with w | w
        · omega
        · constructor
          · intro q; omega
          · intro q; omega
theorem T47_makeGroups {post : (Int → Int) → (Int → Int) → Int → Prop} (hn : 0 ≤ n ∧ n ≤ 8) (hp : ∀ gr' go', (∀ b, 1 ≤ b → b ≤ n → gr' b = cnG (cnHw hs) n b) → (∀ b t, (1 ≤ b ∧ b ≤ n) → 1 ≤ t → t ≤ n → (go' t = cnG (cnHw hs) n b ↔ cnLo (cnHw hs) n b < t ∧ t ≤ cnHi (cnHw hs) n b)) → post gr' go' (cnDf (cnHw hs) n)) : wpX47_makeGroups post hs gr go n := by
  unfold wpX47_makeGroups
  refine T47_g7 hn (fun g0 h0 => ?_)
  have z0 : ∀ {P : Int → Prop}, (∀ b, P b → 1 ≤ b) → cntI (fun b => P b ∧ 0 ≤ g0 b) (n + 1).toNat = 0 := fun {P} hP => by
    rw [cntI_c (q := fun _ => False) (fun b b0 b1 => ⟨fun w => by
      have := h0 b (hP b w.1) (by omega)
      omega, fun w => w.elim⟩)]
    exact cntI_0 (fun _ _ _ w => w)
  refine wl5 (fun fu nu dn gr go gc => wX47_makeGroups_29 (fun a b c => post a b c) n hs fu nu dn gr go gc) (fun nu dn gr go gc => cnGi (cnHw hs) n nu dn gr go gc) (fun _ dn _ _ _ => (n - dn).toNat) ?_ 1 0 g0 go 0 ⟨rfl, fun b b0 b1 => Or.inl (h0 b b0 b1), fun b c hb hc h => by
    have := h0 b hb.1 hb.2
    omega, (z0 (fun b h => h)).symm, (z0 (fun b h => h.1)).symm, fun t t0 t1 => by omega, fun b t hb h => by
    have := h0 b hb.1 hb.2
    omega⟩
  rintro nu dn gr go gc I fu ih
  try dsimp only
  rw [wX47_makeGroups_29]
  have i4 := I.2.2.2.1
  have i5 := I.2.2.2.2.1
  have d1 := cnDn_le (gr := gr) hn.1
  have g1 := cntI_b (fun b => cnF (cnHw hs) b ∧ 0 ≤ gr b) (n + 1).toNat
  refine ⟨fun z => ?_, fun z => ?_⟩
  · have al : ∀ b, 1 ≤ b → b ≤ n → 0 ≤ gr b := fun b b0 b1 => by
      by_cases w : 0 ≤ gr b
      · exact w
      · have := cnDn_lt ⟨b0, b1⟩ w
        omega
    have e5 : gc = cnDf (cnHw hs) n := i5.trans (cntI_c (fun c c0 c1 => ⟨fun w => w.1, fun w => ⟨w, al c w.1 (by omega)⟩⟩))
    rw [e5]
    refine hp gr go (fun b b0 b1 => ?_) (fun b t hb t0 t1 => I.2.2.2.2.2.2 b t hb (al b hb.1 hb.2) t0 (by have := I.1; omega))
    rcases I.2.1 b b0 b1 with w | w
    · have := al b b0 b1
      omega
    · exact w.2.1
  · have ex : ∃ b, (1 ≤ b ∧ b ≤ n) ∧ ¬ 0 ≤ gr b := Classical.byContradiction (fun w => by
      have := cnDn_all (gr := gr) hn.1 (fun b b0 b1 => Classical.byContradiction (fun y => w ⟨b, ⟨b0, b1⟩, y⟩))
      omega)
    refine T47_g40 hn ex (fun x hx nx lx => ?_)
    refine T47_g88 hn hx (by omega) I.1 i4 (fun nu' dn' gr' go' f1 f2 f3 f4 f5 f6 => ⟨by omega, fun gc' egc => ?_⟩)
    obtain ⟨I', lt⟩ := cnGi_step hn.1 I hx nx lx f1 f2 f3 f4 f5 f6
    have d2 := cnDn_le (gr := gr') hn.1
    rw [egc]
    exact ih nu' dn' gr' go' (gc + 1) I' (by omega)
/-- what is told when hashes are made -/
def cnHd (L : List qA) (n : Int) (hs : Int → Int) (ro : Int) (gr go : Int → Int) (gc : Int) : Prop :=
  cnEq n (cnHw hs) (cnHa L n).1 ∧ ro = (cnHa L n).2 ∧ (∀ b, 1 ≤ b → b ≤ n → gr b = cnG (cnHa L n).1 n b) ∧ gc = cnDf (cnHa L n).1 n ∧ ∀ b t, (1 ≤ b ∧ b ≤ n) → 1 ≤ t → t ≤ n → (go t = cnG (cnHa L n).1 n b ↔ cnLo (cnHa L n).1 n b < t ∧ t ≤ cnHi (cnHa L n).1 n b)
theorem T47_makeHashes {post : (Int → Int) → (Int → Int) → Int → Int → (Int → Int) → (Int → Int) → Int → (Int → Int) → Int → (Int → Int) → Int → (Int → Int) → (Int → Int) → (Int → Int) → Prop} (hk : ∀ t, 0 ≤ t → t < 64 → kc t = shK t) (hbl : bl 8 = n) (hc : cu 8 = m) (h40 : 0 ≤ m ∧ m ≤ 40) (hn : 0 ≤ n ∧ n ≤ 8) (ht : ∀ t ∈ cnGr pt 8 m, cnTp n t) (hH : hd = 0 ∨ (hd = 1 ∧ cnHd (cnGr pt 8 m) n hs ro gr go gc))
  (hp : ∀ hs' nw' ro' gr' go' gc' de' d' ms' z' wd' sc' sd', cnHd (cnGr pt 8 m) n hs' ro' gr' go' gc' → post hs' nw' ro' 1 gr' go' gc' de' d' ms' z' wd' sc' sd') : wpX47_makeHashes post kc bl cu pt hs nw ro hd gr go gc de d ms z wd sc sd := by
  unfold wpX47_makeHashes
  refine ⟨fun h0 x ex => ?_, fun h0 => ?_⟩
  · rw [hbl] at ex
    rw [ex]
    refine T47_digestOf hk ⟨by decide, by decide⟩ (l := []) rfl (fun m1 w1 s1 _ hw => ?_)
    refine T47_h23 hn hw (fun h1 eh => ?_)
    refine ⟨_, T47_h72 hk hbl hc h40 hn ht (R := cnHa (cnGr pt 8 m) n) (fun hs' nw' de' d' ms' z' wd' sc' sd' eR => ?_) 10 h1 nw (fun _ => shDl []) 0 _ _ _ _ _ _ _ eh (by have := cnDf_b (H := fun _ => shDl []) hn.1; omega) (by decide) (by decide) rfl⟩
    refine T47_makeGroups hn (fun gr' go' g1 g2 => hp _ _ _ _ _ _ _ _ _ _ _ _ _ ⟨eR, rfl, fun b b0 b1 => ?_, cnDf_c eR, fun b t hb t0 t1 => ?_⟩)
    · rw [g1 b b0 b1]; exact cnG_c eR ⟨b0, b1⟩
    · rw [← cnG_c eR hb, ← cnLo_c eR hb, ← cnHi_c eR hb]; exact g2 b t hb t0 t1
  · rcases hH with w | ⟨w, h⟩
    · exact absurd w h0
    · rw [w]; exact hp _ _ _ _ _ _ _ _ _ _ _ _ _ h
end

/-! CanonNames: all orders of the numbers, one after the other -/
section
variable {p p' q : Int → Int} {n k j m i : Int}
def cnIn (n : Int) (p : Int → Int) : Prop := (∀ i, 1 ≤ i → i ≤ n → 1 ≤ p i ∧ p i ≤ n) ∧ ∀ i j, 1 ≤ i → i < j → j ≤ n → ¬ p i = p j
theorem cnIn.ne (h : cnIn n p) (hi : 1 ≤ i ∧ i ≤ n) (hj : 1 ≤ j ∧ j ≤ n) (e : p i = p j) : i = j := by
  rcases Int.lt_trichotomy i j with z | z | z
  · exact absurd e (h.2 i j hi.1 z hj.2)
  · exact z
  · exact absurd e.symm (h.2 j i hj.1 z hi.2)
theorem cnPg (h : cnIn n p) : ∀ m : Nat, (m : Int) ≤ n → cntI (fun w => ∃ i, (1 ≤ i ∧ i ≤ (m : Int)) ∧ p i = w) (n + 1).toNat = m
  | 0, _ => cntI_0 (fun w _ _ ⟨i, hi, _⟩ => by omega)
  | m + 1, hm => by
    have b := h.1 (m + 1) (by omega) (by omega)
    have cn := cntI_u1 (p := fun w => ∃ i, (1 ≤ i ∧ i ≤ (m : Int)) ∧ p i = w) (q := fun w => ∃ i, (1 ≤ i ∧ i ≤ ((m + 1 : Nat) : Int)) ∧ p i = w) (x0 := p (m + 1)) (by omega) (fun ⟨i, hi, e⟩ => h.2 i (m + 1) hi.1 (by omega) (by omega) e) ⟨m + 1, by omega, rfl⟩ (fun x hx => ⟨fun ⟨i, hi, e⟩ => ⟨i, by omega, e⟩, fun ⟨i, hi, e⟩ => ⟨i, by
      have : ¬ i = m + 1 := fun w => hx (by rw [← e, w])
      omega, e⟩⟩) (n + 1).toNat
    rw [cn, cnPg h m (by omega), if_pos (by omega)]
    omega
/-- each number is taken -/
theorem cnIn.on (h : cnIn n p) {v : Int} (hv : 1 ≤ v ∧ v ≤ n) : ∃ i, (1 ≤ i ∧ i ≤ n) ∧ p i = v := Classical.byContradiction (fun no => by
  have c := cnPg h n.toNat (by omega)
  have l := cntI_ltr (p := fun w => ∃ i, (1 ≤ i ∧ i ≤ (n.toNat : Int)) ∧ p i = w) (q := fun w => 1 ≤ w) (j := v) (n + 1).toNat (fun w _ _ ⟨i, hi, e⟩ => by
    have := (h.1 i hi.1 (by omega)).1
    rw [e] at this
    exact this) (by omega) (by omega) hv.1 (fun ⟨i, hi, e⟩ => no ⟨i, by omega, e⟩)
  rw [cntI_1n (by omega)] at l
  omega)
/-- a row of numbers, told apart, from 1 to n -/
def cnPm (n : Int) (q : List Int) : Prop := (q.length : Int) = n ∧ (∀ v ∈ q, 1 ≤ v ∧ v ≤ n) ∧ q.Nodup
def cnAt (q : List Int) (i : Int) : Int := q.getD (i - 1).toNat 0
theorem cnAt_e {q : List Int} : aF (cnAt q) 1 q.length = q := by
  refine List.ext_getElem (aF_len _ _) (fun i h1 h2 => ?_)
  have a := aF_get (f := cnAt q) (d := 0) q.length 1 i h2
  rw [List.getD_eq_getElem?_getD, List.getElem?_eq_getElem h1] at a
  have b : cnAt q (1 + (i : Int)) = q[i] := by
    unfold cnAt
    rw [show (1 + (i : Int) - 1).toNat = i by omega, List.getD_eq_getElem?_getD, List.getElem?_eq_getElem h2]
    rfl
  rw [← b, ← a]
  rfl
theorem cnPm_f (hn : 0 ≤ n) : cnPm n (aF p 1 n.toNat) ↔ cnIn n p := by
  constructor
  · rintro ⟨_, h1, h2⟩
    refine ⟨fun i i0 i1 => h1 _ ((aF_mem _ _).2 ⟨i, by omega, rfl⟩), fun i j i0 ij j1 e => ?_⟩
    have nd : ∀ (m : Nat) (s : Int), (aF p s m).Nodup → ∀ i j, s ≤ i → i < j → j < s + m → ¬ p i = p j := fun m => by
      induction m with
      | zero => intro s _ i j i0 ij j1; omega
      | succ m ih =>
        intro s h i j i0 ij j1 e
        rw [aF, List.nodup_cons] at h
        by_cases z : i = s
        · exact h.1 ((aF_mem _ _).2 ⟨j, by omega, by rw [← z]; exact e⟩)
        · exact ih (s + 1) h.2 i j (by omega) ij (by omega) e
    exact nd n.toNat 1 h2 i j i0 ij (by omega) e
  · rintro ⟨h1, h2⟩
    refine ⟨by rw [aF_len]; omega, fun v hv => ?_, aF_pw _ _ (fun i j i0 ij j1 => h2 i j i0 ij (by omega))⟩
    obtain ⟨i, hi, e⟩ := (aF_mem _ _).1 hv
    rw [e]
    exact h1 i hi.1 (by omega)
theorem cnPm_at {q : List Int} (h : cnPm n q) : aF (cnAt q) 1 n.toNat = q ∧ cnIn n (cnAt q) := by
  have e : aF (cnAt q) 1 n.toNat = q := by
    have := h.1
    rw [show n.toNat = q.length by omega]
    exact cnAt_e
  refine ⟨e, (cnPm_f (by have := h.1; omega)).1 (by rw [e]; exact h)⟩
/-- before: by the first difference -/
theorem cnLt_f : ∀ (m : Nat) (s : Int), ¬ qLx (aF q s m) (aF p s m) ↔ ∃ k, (s ≤ k ∧ k < s + m) ∧ (∀ i, s ≤ i → i < k → p i = q i) ∧ p k < q k
  | 0, s => ⟨fun h => absurd trivial h, fun ⟨k, hk, _⟩ => by omega⟩
  | m + 1, s => by
    rw [aF, aF]
    constructor
    · intro h
      rcases Int.lt_trichotomy (p s) (q s) with z | z | z
      · exact ⟨s, by omega, fun i i0 i1 => by omega, z⟩
      · have h2 : ¬ qLx (aF q (s + 1) m) (aF p (s + 1) m) := fun w => h (Or.inr ⟨z.symm, w⟩)
        obtain ⟨k, hk, he, l⟩ := (cnLt_f m (s + 1)).1 h2
        refine ⟨k, by omega, fun i i0 i1 => ?_, l⟩
        by_cases y : i = s
        · rw [y]; exact z
        · exact he i (by omega) i1
      · exact absurd (Or.inl z) h
    · rintro ⟨k, hk, he, l⟩ w
      by_cases y : k = s
      · rw [y] at l
        rcases w with w | w
        · omega
        · omega
      · have e := he s (Int.le_refl _) (by omega)
        rcases w with w | w
        · omega
        · exact (cnLt_f m (s + 1)).2 ⟨k, by omega, fun i i0 i1 => he i (by omega) i1, l⟩ w.2
theorem cnDc (hd : ∀ i, k < i → i < n → p (i + 1) < p i) : ∀ (m : Nat) (i : Int), k < i → i + m + 1 ≤ n → p (i + m + 1) < p i
  | 0, i, h0, h1 => by
    have := hd i h0 (by omega)
    rw [show i + ((0 : Nat) : Int) + 1 = i + 1 by omega]
    exact this
  | m + 1, i, h0, h1 => by
    have a := cnDc hd m i h0 (by omega)
    have b := hd (i + m + 1) (by omega) (by omega)
    rw [show i + ((m + 1 : Nat) : Int) + 1 = i + m + 1 + 1 by omega]
    omega
/-- the last of all -/
theorem cnMax (hp : cnIn n p) (hn : 0 ≤ n) (hd : ∀ i, 0 < i → i < n → p (i + 1) < p i) (hq : cnIn n q) : qLx (aF q 1 n.toNat) (aF p 1 n.toNat) := Classical.byContradiction (fun no => by
  obtain ⟨m, hm, he, l⟩ := (cnLt_f _ _).1 no
  have b := hq.1 m hm.1 (by omega)
  obtain ⟨i, hi, e⟩ := hp.on b
  rcases Int.lt_trichotomy i m with z | z | z
  · have := he i hi.1 z
    exact hq.2 i m hi.1 z (by omega) (by omega)
  · rw [z] at e; omega
  · have := cnDc hd (i - m - 1).toNat m (by omega) (by omega)
    rw [show m + ((i - m - 1).toNat : Int) + 1 = i by omega] at this
    omega)
/-- the next one -/
theorem cnSuc (hp : cnIn n p) (hk : 1 ≤ k ∧ k < n) (hd : ∀ i, k < i → i < n → p (i + 1) < p i) (hj : k < j ∧ j ≤ n) (hjk : p k < p j) (hjg : ∀ i, j < i → i ≤ n → p i < p k) (e1 : ∀ i, 1 ≤ i → i < k → p' i = p i) (e2 : p' k = p j)
  (e3 : ∀ i, k < i → i ≤ n → p' i = if n + 1 + k - i = j then p k else p (n + 1 + k - i)) : cnIn n p' ∧ ∀ q, cnIn n q → (qLx (aF p' 1 n.toNat) (aF q 1 n.toNat) ↔ ¬ qLx (aF q 1 n.toNat) (aF p 1 n.toNat)) := by
  have dc : ∀ i i', k < i → i < i' → i' ≤ n → p i' < p i := fun i i' h0 h1 h2 => by
    have := cnDc hd (i' - i - 1).toNat i h0 (by omega)
    rw [show i + ((i' - i - 1).toNat : Int) + 1 = i' by omega] at this
    exact this
  have dj : ∀ i, k < i → i < j → p j < p i := fun i h0 h1 => dc i j h0 h1 hj.2
  have as : ∀ i i', k < i → i < i' → i' ≤ n → p' i < p' i' := fun i i' h0 h1 h2 => by
    rw [e3 i h0 (by omega), e3 i' (by omega) h2]
    by_cases y : n + 1 + k - i = j
    · rw [if_pos y, if_neg (by omega)]
      have := dj (n + 1 + k - i') (by omega) (by omega)
      omega
    · rw [if_neg y]
      by_cases y2 : n + 1 + k - i' = j
      · rw [if_pos y2]
        exact hjg _ (by omega) (by omega)
      · rw [if_neg y2]
        exact dc _ _ (by omega) (by omega) (by omega)
  -- where a place's number stands in p
  have src : ∀ i, 1 ≤ i → i ≤ n → ∃ s, (1 ≤ s ∧ s ≤ n) ∧ p' i = p s ∧ (i < k → s = i) ∧ (i = k → s = j) ∧ (k < i → k ≤ s ∧ ¬ s = j) := fun i i0 i1 => by
    rcases Int.lt_trichotomy i k with z | z | z
    · exact ⟨i, ⟨i0, i1⟩, e1 i i0 z, fun _ => rfl, fun _ => by omega, fun _ => by omega⟩
    · exact ⟨j, by omega, by rw [z]; exact e2, fun _ => by omega, fun _ => rfl, fun _ => by omega⟩
    · by_cases y : n + 1 + k - i = j
      · exact ⟨k, by omega, by rw [e3 i z i1, if_pos y], fun _ => by omega, fun _ => by omega, fun _ => by omega⟩
      · exact ⟨n + 1 + k - i, by omega, by rw [e3 i z i1, if_neg y], fun _ => by omega, fun _ => by omega, fun _ => by omega⟩
  have P' : cnIn n p' := by
    refine ⟨fun i i0 i1 => ?_, fun a b a0 ab b1 e => ?_⟩
    · obtain ⟨s, hs, e, _⟩ := src i i0 i1
      rw [e]; exact hp.1 s hs.1 hs.2
    · by_cases z : k < a
      · have := as a b z ab b1
        omega
      · obtain ⟨s, hs, es, s1, s2, s3⟩ := src a a0 (by omega)
        obtain ⟨t, ht, et, t1, t2, t3⟩ := src b (by omega) b1
        have st : s = t := hp.ne hs ht (by rw [← es, ← et]; exact e)
        rcases Int.lt_trichotomy b k with y | y | y
        · have := s1 (by omega)
          have := t1 y
          omega
        · have := s1 (by omega)
          have := t2 y
          omega
        · have := t3 y
          rcases Int.lt_trichotomy a k with x | x | x
          · have := s1 x
            omega
          · have := s2 x
            omega
          · omega
  have less : ¬ qLx (aF p' 1 n.toNat) (aF p 1 n.toNat) := (cnLt_f _ _).2 ⟨k, by omega, fun i i0 i1 => (e1 i i0 i1).symm, by rw [e2]; exact hjk⟩
  refine ⟨P', fun q hq => ⟨fun h w => less (qLx_t h w), fun h => Classical.byContradiction (fun no => ?_)⟩⟩
  obtain ⟨m, hm, he, l⟩ := (cnLt_f _ _).1 h
  obtain ⟨m', hm', he', l'⟩ := (cnLt_f _ _).1 no
  have far : ∀ i, (1 ≤ i ∧ i ≤ n) → p i = q m → m ≤ i := fun i hi e => by
    by_cases z : i < m
    · have := he i hi.1 z
      have := hq.ne hi ⟨hm.1, by omega⟩ (by omega)
      omega
    · omega
  have b := hq.1 m hm.1 (by omega)
  obtain ⟨i, hi, e⟩ := hp.on b
  have fi := far i hi e
  have ni : ¬ i = m := fun w => by rw [w] at e; omega
  rcases Int.lt_trichotomy m k with z | z | z
  · have em := e1 m hm.1 z
    rcases Int.lt_trichotomy m' m with y | y | y
    · have := he m' hm'.1 y
      have := e1 m' hm'.1 (by omega)
      omega
    · rw [y] at l'
      omega
    · have := he' m hm.1 y
      omega
  · rw [z] at e l ni fi
    have ij : i ≤ j := Classical.byContradiction (fun w => by
      have := hjg i (by omega) hi.2
      omega)
    have ge : p' k ≤ q k := by
      rw [e2, ← e]
      by_cases y : i = j
      · rw [y]; exact Int.le_refl _
      · have := dj i (by omega) (by omega)
        omega
    rcases Int.lt_trichotomy m' k with y | y | y
    · have := he m' hm'.1 (by omega)
      have := e1 m' hm'.1 y
      omega
    · rw [y] at l'
      omega
    · have b' := hq.1 m' hm'.1 (by omega)
      obtain ⟨x, hx, ex⟩ := P'.on b'
      rcases Int.lt_trichotomy x m' with w | w | w
      · have := he' x hx.1 w
        have := hq.ne hx ⟨hm'.1, by omega⟩ (by omega)
        omega
      · rw [w] at ex; omega
      · have := as m' x y w hx.2
        omega
  · have := dc m i z (by omega) hi.2
    omega
/-- the first of all -/
theorem cnMin (hn : 0 ≤ n) (hq : cnIn n q) : qLx (aF (fun i => i) 1 n.toNat) (aF q 1 n.toNat) := Classical.byContradiction (fun no => by
  obtain ⟨m, hm, he, l⟩ := (cnLt_f _ _).1 no
  have b := hq.1 m hm.1 (by omega)
  have := he (q m) b.1 l
  have := hq.ne (i := q m) (j := m) ⟨b.1, by omega⟩ ⟨hm.1, by omega⟩ (by omega)
  omega)
end
section
variable {tr tr' gr go : Int → Int} {n k j m i x y b : Int} {A B : Prop}
theorem T47_begin {post : (Int → Int) → Prop} (hn : 0 ≤ n ∧ n ≤ 8) (hp : ∀ tr', (∀ b, 1 ≤ b → b ≤ n → tr' b = b) → post tr') : wpX47_begin post tr n := by
  unfold wpX47_begin
  refine wl2 (fun fu b q => wX47_begin_2 (fun q => post q) n fu b q) (fun b q => (1 ≤ b ∧ b ≤ n + 1) ∧ ∀ c, 1 ≤ c → c < b → q c = c) (fun b _ => (n + 1 - b).toNat) ?_ 1 tr ⟨by omega, fun c c0 c1 => by omega⟩
  rintro b q ⟨hb, h⟩ fu ih
  try dsimp only
  rw [wX47_begin_2]
  refine ⟨fun z => hp q (fun c c0 c1 => h c c0 (by omega)), fun z => ⟨by omega, fun q' eq => ⟨by omega, fun b' eb => ?_⟩⟩⟩
  rw [eb]
  refine ih (b + 1) q' ⟨by omega, fun c c0 c1 => ?_⟩ (by omega)
  rw [eq]
  by_cases w : c = b
  · rw [w, updI_s]
  · rw [updI_n w]; exact h c c0 (by omega)
theorem T47_t4 {K : Int → Prop} (hn : 0 ≤ n ∧ n ≤ 8) (h0 : ∀ k, k < 1 → (∀ i, 0 < i → i < n → tr (i + 1) < tr i) → K k) (h1 : ∀ k, (1 ≤ k ∧ k < n) → tr k ≤ tr (k + 1) → (∀ i, k < i → i < n → tr (i + 1) < tr i) → K k) : ∃ fu : Nat, wX47_turn_4 K tr fu (n - 1) := by
  refine wloop (fun fu k => wX47_turn_4 K tr fu k) (fun k => (-1 ≤ k ∧ k ≤ n - 1) ∧ ∀ i, k < i → i < n → tr (i + 1) < tr i) (fun k => (k + 1).toNat) ?_ (n - 1) ⟨by omega, fun i i0 i1 => by omega⟩
  rintro k ⟨hk, h⟩ fu ih
  try dsimp only
  rw [wX47_turn_4]
  refine ⟨fun z => h0 k z (fun i i0 i1 => h i (by omega) i1), fun z => ⟨by omega, by omega, fun w => h1 k (by omega) w h, fun w => ⟨by omega, fun k' ek => ?_⟩⟩⟩
  rw [ek]
  refine ih (k + -1) ⟨by omega, fun i i0 i1 => ?_⟩ (by omega)
  by_cases y : i = k
  · rw [y]; omega
  · exact h i (by omega) i1
theorem T47_t41 {K : Int → Prop} (hn : n ≤ 8) (hk : 1 ≤ k ∧ k < n) (hl : tr k < tr (k + 1)) (hK : ∀ j, (k < j ∧ j ≤ n) → tr k ≤ tr j → (∀ i, j < i → i ≤ n → tr i < tr k) → K j) : ∃ fu : Nat, wX47_turn_41 K k tr fu n := by
  refine wloop (fun fu j => wX47_turn_41 K k tr fu j) (fun j => (k < j ∧ j ≤ n) ∧ ∀ i, j < i → i ≤ n → tr i < tr k) (fun j => j.toNat) ?_ n ⟨by omega, fun i i0 i1 => by omega⟩
  rintro j ⟨hj, h⟩ fu ih
  try dsimp only
  rw [wX47_turn_41]
  refine ⟨by omega, by omega, fun w => hK j hj w h, fun w => ⟨by omega, fun j' ej => ?_⟩⟩
  rw [ej]
  have : ¬ j = k + 1 := fun y => by rw [y] at w; omega
  refine ih (j + -1) ⟨by omega, fun i i0 i1 => ?_⟩ (by omega)
  by_cases y : i = j
  · rw [y]; omega
  · exact h i (by omega) i1
theorem T47_t71 {K : (Int → Int) → Prop} (hn : n ≤ 8) (hk : 1 ≤ k ∧ k < n) (hK : ∀ tr', (∀ x, 1 ≤ x → x ≤ k → tr' x = tr x) → (∀ x, k < x → x ≤ n → tr' x = tr (n + 1 + k - x)) → K tr') : ∃ fu : Nat, wX47_turn_71 K n k fu 1 tr := by
  refine wl2 (fun fu i q => wX47_turn_71 K n k fu i q) (fun i q => (1 ≤ i ∧ i ≤ n) ∧ (2 * i ≤ n + 3 - k) ∧ (∀ x, 1 ≤ x → x ≤ k → q x = tr x) ∧ ∀ x, k < x → x ≤ n → ((x < k + i ∨ n + 1 - i < x) → q x = tr (n + 1 + k - x)) ∧ (¬ (x < k + i ∨ n + 1 - i < x) → q x = tr x)) (fun i _ => (n - i).toNat) ?_ 1 tr ⟨by omega, by omega, fun _ _ _ => rfl, fun x x0 x1 => ⟨fun w => by omega, fun _ => rfl⟩⟩
  rintro i q ⟨hi, hi2, q1, q2⟩ fu ih
  try dsimp only
  rw [wX47_turn_71]
  refine ⟨by omega, by omega, fun z => hK q q1 (fun x x0 x1 => ?_), fun z => ?_⟩
  · by_cases w : x < k + i ∨ n + 1 - i < x
    · exact (q2 x x0 x1).1 w
    · rw [(q2 x x0 x1).2 w]
      exact congrArg tr (by omega)
  · unfold wpX47_change
    refine ⟨by omega, fun u eu => ⟨by omega, fun v ev a ea c ec => ⟨by omega, fun i' ei => ?_⟩⟩⟩
    rw [ei]
    refine ih (i + 1) c ⟨by omega, by omega, fun x x0 x1 => by rw [ec, updI_n (by omega), ea, updI_n (by omega)]; exact q1 x x0 x1, fun x x0 x1 => ⟨fun w => ?_, fun w => ?_⟩⟩ (by omega)
    · rw [ec]
      by_cases y : x = n + 1 - i
      · rw [y, updI_s, eu, (q2 (k + i) (by omega) (by omega)).2 (by omega)]
        exact congrArg tr (by omega)
      · rw [updI_n y, ea]
        by_cases y2 : x = k + i
        · rw [y2, updI_s, ev, (q2 (n + 1 - i) (by omega) (by omega)).2 (by omega)]
          exact congrArg tr (by omega)
        · rw [updI_n y2]; exact (q2 x x0 x1).1 (by omega)
    · rw [ec, updI_n (by omega), ea, updI_n (by omega)]
      exact (q2 x x0 x1).2 (by omega)
theorem T47_turn {post : Int → (Int → Int) → Prop} (hn : 0 ≤ n ∧ n ≤ 8) (hp : cnIn n tr) (h0 : (∀ q, cnPm n q → qLx q (aF tr 1 n.toNat)) → post 0 tr) (h1 : ∀ tr', cnIn n tr' → (∀ q, cnPm n q → (qLx (aF tr' 1 n.toNat) q ↔ ¬ qLx q (aF tr 1 n.toNat))) → post 1 tr') : wpX47_turn post tr n := by
  unfold wpX47_turn
  refine ⟨by omega, fun k ek => ?_⟩
  rw [ek]
  refine T47_t4 hn (fun k hk hd => ⟨fun w => by omega, fun _ => h0 (fun q hq => ?_)⟩) (fun k hk hl hd => ⟨fun _ => ?_, fun w => by omega⟩)
  · obtain ⟨e, hq2⟩ := cnPm_at hq
    rw [← e]
    exact cnMax hp hn.1 hd hq2
  · have ne : ¬ tr k = tr (k + 1) := hp.2 k (k + 1) hk.1 (by omega) (by omega)
    refine T47_t41 hn.2 hk (by omega) (fun j hj hjk hjg => ?_)
    have ne2 : ¬ tr k = tr j := hp.2 k j hk.1 hj.1 hj.2
    unfold wpX47_change
    refine ⟨by omega, fun u eu => ⟨by omega, fun v ev a ea c ec => ?_⟩⟩
    refine T47_t71 hn.2 hk (fun tr' f1 f2 => ?_)
    have sw : ∀ x, c x = if x = j then tr k else if x = k then tr j else tr x := fun x => by
      rw [ec, ea, updI_e, updI_e, eu, ev]
    obtain ⟨P', suc⟩ := cnSuc (p' := tr') hp hk hd hj (by omega) hjg (fun i i0 i1 => by rw [f1 i i0 (by omega), sw, if_neg (by omega), if_neg (by omega)]) (by rw [f1 k hk.1 (Int.le_refl _), sw, if_neg (by omega), if_pos rfl]) (fun i i0 i1 => by
      rw [f2 i i0 i1, sw, if_neg (c := n + 1 + k - i = k) (by omega)])
    refine h1 tr' P' (fun q hq => ?_)
    obtain ⟨e, hq2⟩ := cnPm_at hq
    rw [← e]
    exact suc _ hq2
/-- a naming -/
def cnNa (H : Int → List Int) (n : Int) (tr : Int → Int) : Prop := ∀ b, 1 ≤ b → b ≤ n → cnLo H n b < tr b ∧ tr b ≤ cnHi H n b
theorem T47_isNamingB {H : Int → List Int} (hn : 0 ≤ n ∧ n ≤ 8) (hp : cnIn n tr) (hg : ∀ b, 1 ≤ b → b ≤ n → gr b = cnG H n b) (ho : ∀ b t, (1 ≤ b ∧ b ≤ n) → 1 ≤ t → t ≤ n → (go t = cnG H n b ↔ cnLo H n b < t ∧ t ≤ cnHi H n b)) (h1 : cnNa H n tr → B) (h0 : ¬ cnNa H n tr → A) : wpX47_isNaming (fun r => (r = 0 → A) ∧ (¬ r = 0 → B)) gr go tr n := by
  unfold wpX47_isNaming
  refine wl2 (fun fu y b => wX47_isNaming_4 _ n gr go tr fu y b) (fun y b => (1 ≤ b ∧ b ≤ n + 1) ∧ ((y = 1 ∧ ∀ c, 1 ≤ c → c < b → cnLo H n c < tr c ∧ tr c ≤ cnHi H n c) ∨ (y = 0 ∧ ¬ cnNa H n tr))) (fun _ b => (n + 1 - b).toNat) ?_ 1 1 ⟨by omega, Or.inl ⟨rfl, fun c c0 c1 => by omega⟩⟩
  rintro y b ⟨hb, h⟩ fu ih
  try dsimp only
  rw [wX47_isNaming_4]
  refine ⟨fun z => ?_, fun z => ⟨fun w => ?_, fun w => ?_⟩⟩
  · rcases h with ⟨ey, h⟩ | ⟨ey, h⟩
    · rw [ey]
      exact ⟨Or.inr rfl, fun w => absurd w (by decide), fun _ => h1 (fun c c0 c1 => h c c0 (by omega))⟩
    · rw [ey]
      exact ⟨Or.inl rfl, fun _ => h0 h, fun w => absurd rfl w⟩
  · rcases h with ⟨ey, h⟩ | ⟨ey, h⟩
    · omega
    · rw [ey]
      exact ⟨Or.inl rfl, fun _ => h0 h, fun w => absurd rfl w⟩
  · rcases h with ⟨ey, h⟩ | ⟨ey, h⟩
    · have tb := hp.1 b hb.1 (by omega)
      have gb := hg b hb.1 (by omega)
      have ob := ho b (tr b) ⟨hb.1, by omega⟩ tb.1 tb.2
      refine ⟨by omega, by omega, by omega, fun e => ⟨by omega, fun b' eb => ?_⟩, fun e => ⟨by omega, fun b' eb => ?_⟩⟩
      · rw [eb]
        refine ih 1 (b + 1) ⟨by omega, Or.inl ⟨rfl, fun c c0 c1 => ?_⟩⟩ (by omega)
        by_cases v : c = b
        · rw [v]; exact ob.1 (by rw [e, gb])
        · exact h c c0 (by omega)
      · rw [eb]
        refine ih 0 (b + 1) ⟨by omega, Or.inr ⟨rfl, fun N => e ?_⟩⟩ (by omega)
        rw [gb]
        exact ob.2 (N b hb.1 (by omega))
    · exact absurd ey w
end

/-! CanonNames, the reference (X47): rows by numbers, the least of all -/
def cnQ3 (t : qA) : List Int := [t.1, t.2.1, t.2.2]
/-- a point, a triple by the numbers of blanks -/
def cnNu (tr : Int → Int) (v : Int) : Int := if v ≤ 0 then -tr (-v) else v
def cnRn (tr : Int → Int) (t : qA) : qA := (cnNu tr t.1, cnNu tr t.2.1, cnNu tr t.2.2)
def cnR3 (f : Int → Int) (k : Int) : List Int := aF (fun i => f (3 * k + i)) 0 3
noncomputable def cnRS (L : List qA) (tr : Int → Int) : List (List Int) := cnS (L.map (fun t => cnQ3 (cnRn tr t)))
/-- the row by a naming -/
noncomputable def cnFl (L : List qA) (q : List Int) : List Int := (cnRS L (cnAt q)).flatten
section
variable {f g tr tr' : Int → Int} {n k m v a b : Int} {L L' : List qA} {t : qA} {q : List Int}
theorem cnAt_f (h : 1 ≤ k ∧ k ≤ n) : cnAt (aF tr 1 n.toNat) k = tr k := by
  unfold cnAt
  rw [aF_get _ _ _ (by omega), show 1 + ((k - 1).toNat : Int) = k by omega]
theorem cnNu_c (h : ∀ i, 1 ≤ i → i ≤ n → tr i = tr' i) (hv : cnPt n v) : cnNu tr v = cnNu tr' v := by
  unfold cnPt at hv
  unfold cnNu
  by_cases z : v ≤ 0
  · rw [if_pos z, if_pos z, h (-v) (by omega) (by omega)]
  · rw [if_neg z, if_neg z]
theorem cnRn_c (h : ∀ i, 1 ≤ i → i ≤ n → tr i = tr' i) (ht : cnTp n t) : cnRn tr t = cnRn tr' t := by
  obtain ⟨h1, h2, h3⟩ := ht
  unfold cnRn
  rw [cnNu_c h h1, cnNu_c h h2, cnNu_c h h3]
theorem cnRS_c (h : ∀ i, 1 ≤ i → i ≤ n → tr i = tr' i) (ht : ∀ t ∈ L, cnTp n t) : cnRS L tr = cnRS L tr' := by
  unfold cnRS
  rw [List.map_congr_left (fun t hm => by rw [cnRn_c h (ht t hm)])]
theorem cnRS_p (h : L.Perm L') : cnRS L tr = cnRS L' tr := cnS_p (h.map _)
theorem cnFl_p (h : L.Perm L') : cnFl L q = cnFl L' q := by
  unfold cnFl
  rw [cnRS_p h]
theorem cnR3_e {x y z : Int} (h0 : f (3 * k) = x) (h1 : f (3 * k + 1) = y) (h2 : f (3 * k + 2) = z) : cnR3 f k = cnQ3 (x, y, z) := by
  unfold cnR3
  rw [aF, aF, aF, aF, Int.add_zero, h0, Int.zero_add, h1, show (1 : Int) + 1 = 2 by decide, h2]
  rfl
theorem cnR3_c (h : ∀ i, 0 ≤ i → i < 3 → f (3 * a + i) = g (3 * b + i)) : cnR3 f a = cnR3 g b := aF_c _ _ (fun i i0 i1 => h i i0 (by omega))
/-- triples' rows, one behind the other -/
theorem cnR3_fl : ∀ m : Nat, (aF (cnR3 f) 0 m).flatten = aF f 0 (3 * m)
  | 0 => rfl
  | m + 1 => by
    rw [aF_s, List.flatten_append, cnR3_fl m, show 3 * (m + 1) = 3 * m + 3 by omega, aF_ap, List.flatten_cons, List.flatten_nil, List.append_nil]
    congr 1
    exact aF_sh (fun i i0 i1 => by rw [show (0 : Int) + i = i by omega]; exact congrArg f (by omega))
/-- the best of a list: the least row, its first naming, how many have it -/
def cnBest (A : List (List Int)) (f : List Int → List Int) (P F : List Int) (m : Int) : Prop := P ∈ A ∧ f P = F ∧ (∀ q ∈ A, qLx F (f q)) ∧ (∀ q ∈ A, f q = F → qLx P q) ∧ m = ((A.filter (fun q => f q = F)).length : Int)
theorem cnBest.pos {A : List (List Int)} {f : List Int → List Int} {P F : List Int} (h : cnBest A f P F m) : 1 ≤ m := by
  obtain ⟨h1, h2, _, _, h5⟩ := h
  have : P ∈ A.filter (fun q => f q = F) := List.mem_filter.2 ⟨h1, decide_eq_true h2⟩
  have := List.length_pos_of_mem this
  omega
theorem cnBest_u {A A' : List (List Int)} {f : List Int → List Int} {P P' F F' : List Int} {m' : Int} (hA : A.Nodup) (hA' : A'.Nodup) (e : ∀ q, q ∈ A ↔ q ∈ A') (h : cnBest A f P F m) (h' : cnBest A' f P' F' m') : P = P' ∧ F = F' ∧ m = m' := by
  obtain ⟨h1, h2, h3, h4, h5⟩ := h
  obtain ⟨g1, g2, g3, g4, g5⟩ := h'
  have eF : F = F' := qLx_a (by rw [← g2]; exact h3 P' ((e P').2 g1)) (by rw [← h2]; exact g3 P ((e P).1 h1))
  subst eF
  refine ⟨qLx_a (h4 P' ((e P').2 g1) g2) (g4 P ((e P).1 h1) h2), rfl, ?_⟩
  have pe : A.Perm A' := (List.perm_ext_iff_of_nodup hA hA').2 e
  rw [h5, g5, (pe.filter _).length_eq]
theorem cnBest_1 {f : List Int → List Int} : cnBest [q] f q (f q) 1 := by
  refine ⟨List.mem_singleton.2 rfl, rfl, fun a ha => by rw [List.mem_singleton.1 ha]; exact qLx_r _, fun a ha _ => by rw [List.mem_singleton.1 ha]; exact qLx_r _, ?_⟩
  rw [List.filter_cons_of_pos (by exact decide_eq_true rfl), List.filter_nil]; rfl
theorem cnBest_lt {A : List (List Int)} {f : List Int → List Int} {P F : List Int} (h : cnBest A f P F m) (l : ¬ qLx F (f q)) : cnBest (A ++ [q]) f q (f q) 1 := by
  obtain ⟨h1, h2, h3, h4, h5⟩ := h
  have l2 : qLx (f q) F := (qLx_tot _ _).resolve_right l
  have no : ∀ a ∈ A, ¬ f a = f q := fun a ha e => l (by rw [← e]; exact h3 a ha)
  refine ⟨List.mem_append_right _ (List.mem_singleton.2 rfl), rfl, fun a ha => ?_, fun a ha e => ?_, ?_⟩
  · rcases List.mem_append.1 ha with z | z
    · exact qLx_t l2 (h3 a z)
    · rw [List.mem_singleton.1 z]; exact qLx_r _
  · rcases List.mem_append.1 ha with z | z
    · exact absurd e (no a z)
    · rw [List.mem_singleton.1 z]; exact qLx_r _
  · rw [List.filter_append, List.filter_eq_nil_iff.2 (fun a ha => by rw [decide_eq_true_eq]; exact no a ha), List.nil_append, List.filter_cons_of_pos (by exact decide_eq_true rfl), List.filter_nil]; rfl
theorem cnBest_eq {A : List (List Int)} {f : List Int → List Int} {P F : List Int} (h : cnBest A f P F m) (hq : ∀ a ∈ A, qLx a q) (e : f q = F) : cnBest (A ++ [q]) f P F (m + 1) := by
  obtain ⟨h1, h2, h3, h4, h5⟩ := h
  refine ⟨List.mem_append_left _ h1, h2, fun a ha => ?_, fun a ha e2 => ?_, ?_⟩
  · rcases List.mem_append.1 ha with z | z
    · exact h3 a z
    · rw [List.mem_singleton.1 z, e]; exact qLx_r _
  · rcases List.mem_append.1 ha with z | z
    · exact h4 a z e2
    · rw [List.mem_singleton.1 z]; exact hq P h1
  · rw [List.filter_append, List.length_append, List.filter_cons_of_pos (by exact decide_eq_true e), List.filter_nil, List.length_singleton]; omega
theorem cnBest_gt {A : List (List Int)} {f : List Int → List Int} {P F : List Int} (h : cnBest A f P F m) (l : ¬ qLx (f q) F) : cnBest (A ++ [q]) f P F m := by
  obtain ⟨h1, h2, h3, h4, h5⟩ := h
  have ne : ¬ f q = F := fun e => l (by rw [e]; exact qLx_r _)
  refine ⟨List.mem_append_left _ h1, h2, fun a ha => ?_, fun a ha e2 => ?_, ?_⟩
  · rcases List.mem_append.1 ha with z | z
    · exact h3 a z
    · rw [List.mem_singleton.1 z]; exact (qLx_tot _ _).resolve_left l
  · rcases List.mem_append.1 ha with z | z
    · exact h4 a z e2
    · rw [List.mem_singleton.1 z] at e2; exact absurd e2 ne
  · rw [List.filter_append, List.length_append, List.filter_cons_of_neg (by rw [decide_eq_true_eq]; exact ne), List.filter_nil, List.length_nil]; omega
/-- a naming as one number -/
def cnCd (p : Int → Int) : Nat → Int
  | 0 => 0
  | m + 1 => 10 * cnCd p m + p (m + 1)
def cnTen : Nat → Int
  | 0 => 1
  | m + 1 => 10 * cnTen m
theorem cnCd_b (h : ∀ i, 1 ≤ i → i ≤ n → 0 ≤ f i ∧ f i ≤ 9) : ∀ m : Nat, (m : Int) ≤ n → 0 ≤ cnCd f m ∧ cnCd f m + 1 ≤ cnTen m
  | 0, _ => ⟨Int.le_refl 0, by show (0 : Int) + 1 ≤ 1; decide⟩
  | m + 1, hm => by
    have ih := cnCd_b h m (by omega)
    have := h (m + 1) (by omega) (by omega)
    rw [cnCd, cnTen]
    omega
theorem cnCd_lt (h : ∀ i, 1 ≤ i → i ≤ n → 0 ≤ f i ∧ f i ≤ 9) (hg : ∀ i, 1 ≤ i → i ≤ n → 0 ≤ g i ∧ g i ≤ 9) (hk : 1 ≤ k) (he : ∀ i, 1 ≤ i → i < k → f i = g i) (l : f k < g k) : ∀ m : Nat, (m : Int) ≤ n → (m < k → cnCd f m = cnCd g m) ∧ (k ≤ m → cnCd f m < cnCd g m)
  | 0, _ => ⟨fun _ => rfl, fun w => by omega⟩
  | m + 1, hm => by
    have ih := cnCd_lt h hg hk he l m (by omega)
    have a := h (m + 1) (by omega) (by omega)
    have b := hg (m + 1) (by omega) (by omega)
    rw [cnCd, cnCd]
    refine ⟨fun w => ?_, fun w => ?_⟩
    · rw [ih.1 (by omega), he (m + 1) (by omega) (by omega)]
    · by_cases z : k = m + 1
      · rw [← z, ih.1 (by omega)]
        omega
      · have := ih.2 (by omega)
        omega
theorem cnTen_8 : ∀ m : Nat, m ≤ 8 → cnTen m ≤ 100000000 := by
  intro m hm
  have h : ∀ m : Nat, m < 9 → cnTen m ≤ 100000000 := by decide
  exact h m (by omega)
end
section
variable {bl cu pt hs nw de ms sa sd kc wd sc oc f g gr go tr ro ro' fo na : Int → Int} {a b c d e k n m p q r s t v x y z nb nu dn gc : Int} {A B : Prop} {L : List qA} {l : List Int} {H : Int → List Int}
theorem T47_c3_row {post : Int → Prop} (ha : 0 ≤ a ∧ a < 40) (hb : 0 ≤ b ∧ b < 40) (h0 : cnR3 f a = cnR3 f b → post 0) (h1 : ¬ qLx (cnR3 f b) (cnR3 f a) → post (-1)) (h2 : ¬ qLx (cnR3 f a) (cnR3 f b) → post 1) : wpX47_compareTriples_row_row post f a b := by
  unfold wpX47_compareTriples_row_row
  refine wloop (fun fu k => wX47_compareTriples_row_row_3 _ (post 0) a b f fu k) (fun k => (0 ≤ k ∧ k ≤ 3) ∧ ∀ i, 0 ≤ i → i < k → f (3 * a + i) = f (3 * b + i)) (fun k => (3 - k).toNat) ?_ 0 ⟨by omega, fun i i0 i1 => by omega⟩
  rintro k ⟨hk, he⟩ fu ih
  try dsimp only
  rw [wX47_compareTriples_row_row_3]
  refine ⟨fun z => h0 (cnR3_c (fun i i0 i1 => he i i0 (by omega))), fun z => ⟨by omega, by omega, fun e => ⟨by omega, fun k' ek => ?_⟩, fun e => ⟨by omega, by omega, fun w => h2 ((cnLt_f _ _).2 ⟨k, by omega, fun i i0 i1 => (he i i0 i1).symm, by omega⟩), fun w => h1 ((cnLt_f _ _).2 ⟨k, by omega, fun i i0 i1 => he i i0 i1, by omega⟩)⟩⟩⟩
  rw [ek]
  refine ih (k + 1) ⟨by omega, fun i i0 i1 => ?_⟩ (by omega)
  by_cases w : i = k
  · rw [w]; exact e
  · exact he i i0 (by omega)
theorem T47_c3_form {post : Int → Prop} (ha : 0 ≤ a ∧ a < 40) (hb : 0 ≤ b ∧ b < 40) (h0 : cnR3 f a = cnR3 g b → post 0) (h1 : ¬ qLx (cnR3 g b) (cnR3 f a) → post (-1)) (h2 : ¬ qLx (cnR3 f a) (cnR3 g b) → post 1) : wpX47_compareTriples_row_form post f g a b := by
  unfold wpX47_compareTriples_row_form
  refine wloop (fun fu k => wX47_compareTriples_row_form_3 _ (post 0) a b f g fu k) (fun k => (0 ≤ k ∧ k ≤ 3) ∧ ∀ i, 0 ≤ i → i < k → f (3 * a + i) = g (3 * b + i)) (fun k => (3 - k).toNat) ?_ 0 ⟨by omega, fun i i0 i1 => by omega⟩
  rintro k ⟨hk, he⟩ fu ih
  try dsimp only
  rw [wX47_compareTriples_row_form_3]
  refine ⟨fun z => h0 (cnR3_c (fun i i0 i1 => he i i0 (by omega))), fun z => ⟨by omega, by omega, fun e => ⟨by omega, fun k' ek => ?_⟩, fun e => ⟨by omega, by omega, fun w => h2 ((cnLt_f _ _).2 ⟨k, by omega, fun i i0 i1 => (he i i0 i1).symm, by omega⟩), fun w => h1 ((cnLt_f _ _).2 ⟨k, by omega, fun i i0 i1 => he i i0 i1, by omega⟩)⟩⟩⟩
  rw [ek]
  refine ih (k + 1) ⟨by omega, fun i i0 i1 => ?_⟩ (by omega)
  by_cases w : i = k
  · rw [w]; exact e
  · exact he i i0 (by omega)
/-- two triples of a row change places -/
theorem T47_r121 {K : (Int → Int) → Prop} (hk : 1 ≤ k ∧ k < 40) (hK : ∀ ro', cnR3 ro' k = cnR3 ro (k - 1) → cnR3 ro' (k - 1) = cnR3 ro k → (∀ i, ¬ i = k → ¬ i = k - 1 → cnR3 ro' i = cnR3 ro i) → K ro') : ∃ fu : Nat, wX47_makeRow_121 K k fu 0 ro := by
  refine wl2 (fun fu i q => wX47_makeRow_121 K k fu i q) (fun i q => (0 ≤ i ∧ i ≤ 3) ∧ (∀ j, 0 ≤ j → j < i → q (3 * k + j) = ro (3 * (k - 1) + j) ∧ q (3 * (k - 1) + j) = ro (3 * k + j)) ∧ (∀ j, i ≤ j → j < 3 → q (3 * k + j) = ro (3 * k + j) ∧ q (3 * (k - 1) + j) = ro (3 * (k - 1) + j)) ∧ ∀ j, ¬ (3 * (k - 1) ≤ j ∧ j < 3 * k + 3) → q j = ro j) (fun i _ => (3 - i).toNat) ?_ 0 ro ⟨by omega, fun j j0 j1 => by omega, fun _ _ _ => ⟨rfl, rfl⟩, fun _ _ => rfl⟩
  rintro i q ⟨hi, q1, q2, q3⟩ fu ih
  try dsimp only
  rw [wX47_makeRow_121]
  refine ⟨fun z => hK q (cnR3_c (fun j j0 j1 => (q1 j j0 (by omega)).1)) (cnR3_c (fun j j0 j1 => (q1 j j0 (by omega)).2)) (fun x n1 n2 => cnR3_c (fun j j0 j1 => q3 _ (by omega))), fun z => ⟨by omega, fun u eu => ⟨by omega, fun v ev a ea c ec => ⟨by omega, fun i' ei => ?_⟩⟩⟩⟩
  have eq := q2 i (Int.le_refl _) (by omega)
  rw [show 3 * k - 3 + i = 3 * (k - 1) + i by omega] at ev ec
  rw [ei]
  refine ih (i + 1) c ⟨by omega, fun j j0 j1 => ?_, fun j j0 j1 => ?_, fun j hj => by rw [ec, updI_n (by omega), ea, updI_n (by omega)]; exact q3 j hj⟩ (by omega)
  · by_cases w : j = i
    · rw [w]
      exact ⟨by rw [ec, updI_n (by omega), ea, updI_s, ev]; exact eq.2, by rw [ec, updI_s, eu]; exact eq.1⟩
    · have := q1 j j0 (by omega)
      exact ⟨by rw [ec, updI_n (by omega), ea, updI_n (by omega)]; exact this.1, by rw [ec, updI_n (by omega), ea, updI_n (by omega)]; exact this.2⟩
  · have := q2 j (by omega) j1
    exact ⟨by rw [ec, updI_n (by omega), ea, updI_n (by omega)]; exact this.1, by rw [ec, updI_n (by omega), ea, updI_n (by omega)]; exact this.2⟩
/-- one triple put into the sorted row -/
theorem T47_r96 {K : (Int → Int) → Prop} (hk : 0 ≤ k ∧ k < 40) (hs : (aF (cnR3 ro) 0 k.toNat).Pairwise qLx) (hK : ∀ ro', (aF (cnR3 ro') 0 (k.toNat + 1)).Perm (cnR3 ro k :: aF (cnR3 ro) 0 k.toNat) → (aF (cnR3 ro') 0 (k.toNat + 1)).Pairwise qLx → K ro') : ∃ fu : Nat, wX47_makeRow_96 K fu k ro := by
  have st : ∀ i j, 0 ≤ i → i < j → j < k → qLx (cnR3 ro i) (cnR3 ro j) := fun i j i0 ij j1 => by
    have h := List.pairwise_iff_getElem.1 hs i.toNat j.toNat (by rw [aF_len]; omega) (by rw [aF_len]; omega) (by omega)
    have ge : ∀ (i : Int), 0 ≤ i → ∀ (l : i.toNat < (aF (cnR3 ro) 0 k.toNat).length), (aF (cnR3 ro) 0 k.toNat)[i.toNat] = cnR3 ro i := fun i i0 l => by
      have a := aF_get (f := cnR3 ro) (d := []) k.toNat 0 i.toNat (by rw [aF_len] at l; exact l)
      rw [List.getD_eq_getElem?_getD, List.getElem?_eq_getElem l, show (0 : Int) + (i.toNat : Int) = i by omega] at a
      exact a
    rw [ge i i0, ge j (by omega)] at h
    exact h
  refine wl2 (fun fu to q => wX47_makeRow_96 K fu to q) (fun to q => (0 ≤ to ∧ to ≤ k) ∧ cnR3 q to = cnR3 ro k ∧ (∀ i, 0 ≤ i → i < to → cnR3 q i = cnR3 ro i) ∧ (∀ i, to < i → i ≤ k → cnR3 q i = cnR3 ro (i - 1)) ∧ ∀ i, to ≤ i → i < k → qLx (cnR3 ro k) (cnR3 ro i)) (fun to _ => to.toNat) ?_ k ro ⟨by omega, rfl, fun _ _ _ => rfl, fun i i0 i1 => by omega, fun i i0 i1 => by omega⟩
  rintro to q ⟨ht, q0, q1, q2, q3⟩ fu ih
  try dsimp only
  rw [wX47_makeRow_96]
  have fin : (∀ i, 0 ≤ i → i < to → qLx (cnR3 ro i) (cnR3 ro k)) → K q := fun low => by
    have at_ : ∀ i, 0 ≤ i → i ≤ (k.toNat : Int) → cnR3 q i = if i = to then cnR3 ro k else if to < i then cnR3 ro (i - 1) else cnR3 ro i := fun i i0 i1 => by
      by_cases y : i = to
      · rw [if_pos y, y]; exact q0
      · rw [if_neg y]
        by_cases y2 : to < i
        · rw [if_pos y2]; exact q2 i y2 (by omega)
        · rw [if_neg y2]; exact q1 i i0 (by omega)
    refine hK q (aF_ins (f := cnR3 ro) (t := to) ⟨ht.1, by omega⟩ at_) (aF_pw _ _ (fun i j i0 ij j1 => ?_))
    rw [at_ i i0 (by omega), at_ j (by omega) (by omega)]
    by_cases y : i = to
    · rw [if_pos y, if_neg (by omega), if_pos (by omega)]
      exact q3 (j - 1) (by omega) (by omega)
    · rw [if_neg y]
      by_cases y2 : to < i
      · rw [if_pos y2, if_neg (by omega), if_pos (by omega)]
        exact st (i - 1) (j - 1) (by omega) (by omega) (by omega)
      · rw [if_neg y2]
        by_cases y3 : j = to
        · rw [if_pos y3]; exact low i i0 (by omega)
        · rw [if_neg y3]
          by_cases y4 : to < j
          · rw [if_pos y4]
            by_cases y5 : i = j - 1
            · omega
            · exact st i (j - 1) i0 (by omega) (by omega)
          · rw [if_neg y4]; exact st i j i0 ij (by omega)
  refine ⟨fun z => fin (fun i i0 i1 => by omega), fun z => ⟨by omega, ?_⟩⟩
  have ep := q1 (to - 1) (by omega) (by omega)
  have stay : qLx (cnR3 q (to - 1)) (cnR3 q to) → K q := fun h => fin (fun i i0 i1 => by
    rw [q0, ep] at h
    by_cases y : i = to - 1
    · rw [y]; exact h
    · exact qLx_t (st i (to - 1) i0 (by omega) (by omega)) h)
  refine T47_c3_row (by omega) (by omega) (fun e => ⟨fun _ => stay (by rw [e]; exact qLx_r _), fun w => absurd (by decide) w⟩) (fun l => ⟨fun w => absurd w (by decide), fun _ => ?_⟩) (fun l => ⟨fun _ => stay ((qLx_tot _ _).resolve_left l), fun w => absurd (by decide) w⟩)
  refine T47_r121 (by omega) (fun q' f1 f2 f3 => ⟨by omega, fun to' et => ?_⟩)
  rw [et, show to + -1 = to - 1 by omega]
  refine ih (to - 1) q' ⟨by omega, by rw [f2]; exact q0, fun i i0 i1 => by rw [f3 i (by omega) (by omega)]; exact q1 i i0 (by omega), fun i i0 i1 => ?_, fun i i0 i1 => ?_⟩ (by omega)
  · by_cases y : i = to
    · rw [y, f1]; exact ep
    · rw [f3 i y (by omega)]; exact q2 i (by omega) i1
  · by_cases y : i = to - 1
    · rw [q0, ep] at l
      rw [y]; exact (qLx_tot _ _).resolve_right l
    · exact q3 i (by omega) i1
theorem T47_numbered {post : Int → Prop} (hn : n ≤ 8) (hp : cnIn n tr) (hv : cnPt n v) (h : post (cnNu tr v)) : wpX47_numbered post tr v := by
  unfold cnPt at hv
  unfold wpX47_numbered
  unfold cnNu at h
  refine ⟨fun z => ?_, fun z => by rw [if_neg z] at h; exact h⟩
  rw [if_pos z] at h
  have := hp.1 (-v) (by omega) (by omega)
  exact ⟨by omega, by omega, h⟩
theorem T47_makeRow {post : (Int → Int) → Prop} (hc : cu 8 = m) (h40 : 0 ≤ m ∧ m ≤ 40) (hn : n ≤ 8) (hp : cnIn n tr) (ht : ∀ t ∈ cnGr pt 8 m, cnTp n t) (h : ∀ ro', aF (cnR3 ro') 0 m.toNat = cnRS (cnGr pt 8 m) tr → post ro') : wpX47_makeRow post cu pt tr ro := by
  unfold wpX47_makeRow
  refine wl2 (fun fu k q => wX47_makeRow_2 (fun q => post q) cu pt tr fu k q) (fun k q => (0 ≤ k ∧ k ≤ m) ∧ (aF (cnR3 q) 0 k.toNat).Perm ((cnGr pt 8 k).map (fun t => cnQ3 (cnRn tr t))) ∧ (aF (cnR3 q) 0 k.toNat).Pairwise qLx) (fun k _ => (m - k).toNat) ?_ 0 ro ⟨by omega, List.Perm.refl _, List.Pairwise.nil⟩
  rintro k q ⟨hk, q1, q2⟩ fu ih
  try dsimp only
  rw [wX47_makeRow_2, hc]
  refine ⟨fun z => ?_, fun z => ?_⟩
  · have ek : k = m := by omega
    rw [ek] at q1 q2
    exact h q (cnS_e (D := (cnGr pt 8 m).map (fun t => cnQ3 (cnRn tr t))) ⟨q1, q2⟩).symm
  · obtain ⟨t1, t2, t3⟩ := ht _ (cnGr_mem.2 ⟨k, by omega, rfl⟩)
    unfold wpX47_at
    refine ⟨⟨by omega, by omega⟩, by omega, T47_numbered hn hp t1 ⟨by omega, T47_numbered hn hp t2 ⟨by omega, T47_numbered hn hp t3 ⟨by omega, fun a ea => ⟨by omega, fun b eb => ⟨by omega, fun c ec => ?_⟩⟩⟩⟩⟩⟩
    have ek3 : cnR3 c k = cnQ3 (cnRn tr (cnTr pt 8 k)) := cnR3_e (by rw [ec, updI_n (by omega), eb, updI_n (by omega), ea, updI_s]; rfl) (by rw [ec, updI_n (by omega), eb, updI_s]; rfl) (by rw [ec, updI_s]; rfl)
    have eo : aF (cnR3 c) 0 k.toNat = aF (cnR3 q) 0 k.toNat := aF_c _ _ (fun i i0 i1 => cnR3_c (fun j j0 j1 => by rw [ec, updI_n (by omega), eb, updI_n (by omega), ea, updI_n (by omega)]))
    refine T47_r96 (by omega) (by rw [eo]; exact q2) (fun q' p1 p2 => ⟨by omega, fun k' ek => ?_⟩)
    rw [ek]
    refine ih (k + 1) q' ⟨by omega, ?_, by rw [show (k + 1).toNat = k.toNat + 1 by omega]; exact p2⟩ (by omega)
    rw [eo, ek3] at p1
    have eG : cnGr pt 8 (k + 1) = cnGr pt 8 k ++ [cnTr pt 8 k] := by
      unfold cnGr
      rw [show (k + 1).toNat = k.toNat + 1 by omega, aF_s, show (0 : Int) + (k.toNat : Int) = k by omega]
    rw [show (k + 1).toNat = k.toNat + 1 by omega, eG, List.map_append]
    exact p1.trans ((q1.cons _).trans (List.perm_append_singleton _ _).symm)
theorem T47_compareForm {post : Int → Prop} (hc : cu 8 = m) (h40 : 0 ≤ m ∧ m ≤ 40) (h0 : aF ro 0 (3 * m.toNat) = aF fo 0 (3 * m.toNat) → post 0) (h1 : ¬ qLx (aF fo 0 (3 * m.toNat)) (aF ro 0 (3 * m.toNat)) → post (-1)) (h2 : ¬ qLx (aF ro 0 (3 * m.toNat)) (aF fo 0 (3 * m.toNat)) → post 1) : wpX47_compareForm post cu ro fo := by
  unfold wpX47_compareForm
  refine wloop (fun fu k => wX47_compareForm_2 (fun r => post r) (post 0) cu ro fo fu k) (fun k => (0 ≤ k ∧ k ≤ m) ∧ ∀ i, 0 ≤ i → i < 3 * k → ro i = fo i) (fun k => (m - k).toNat) ?_ 0 ⟨by omega, fun i i0 i1 => by omega⟩
  rintro k ⟨hk, he⟩ fu ih
  try dsimp only
  rw [wX47_compareForm_2, hc]
  refine ⟨fun z => h0 (aF_c _ _ (fun i i0 i1 => he i i0 (by omega))), fun z => T47_c3_form (by omega) (by omega) (fun e => ⟨fun _ => ⟨by omega, fun k' ek => ?_⟩, fun w => absurd rfl w⟩) (fun l => ⟨fun w => absurd w (by decide), fun _ => h1 ?_⟩) (fun l => ⟨fun w => absurd w (by decide), fun _ => h2 ?_⟩)⟩
  · rw [ek]
    refine ih (k + 1) ⟨by omega, fun i i0 i1 => ?_⟩ (by omega)
    by_cases w : i < 3 * k
    · exact he i i0 w
    · have := ((aF_eq 3 3 0 0).1 e).2 (i - 3 * k) (by omega) (by omega)
      try dsimp only at this
      rw [show 3 * k + (0 + (i - 3 * k)) = i by omega] at this
      exact this
  · obtain ⟨i, hi, he2, l2⟩ := (cnLt_f _ _).1 l
    refine (cnLt_f _ _).2 ⟨3 * k + i, by omega, fun j j0 j1 => ?_, l2⟩
    by_cases w : j < 3 * k
    · exact he j j0 w
    · have := he2 (j - 3 * k) (by omega) (by omega)
      try dsimp only at this
      rw [show 3 * k + (j - 3 * k) = j by omega] at this
      exact this
  · obtain ⟨i, hi, he2, l2⟩ := (cnLt_f _ _).1 l
    refine (cnLt_f _ _).2 ⟨3 * k + i, by omega, fun j j0 j1 => ?_, l2⟩
    by_cases w : j < 3 * k
    · exact (he j j0 w).symm
    · have := he2 (j - 3 * k) (by omega) (by omega)
      try dsimp only at this
      rw [show 3 * k + (j - 3 * k) = j by omega] at this
      exact this
theorem T47_take {post : (Int → Int) → (Int → Int) → Prop} (hc : cu 8 = m) (h40 : 0 ≤ m ∧ m ≤ 40) (hn : 0 ≤ n ∧ n ≤ 8) (h : ∀ na' fo', aF na' 1 n.toNat = aF tr 1 n.toNat → aF fo' 0 (3 * m.toNat) = aF ro 0 (3 * m.toNat) → post na' fo') : wpX47_take post cu tr ro na fo n := by
  unfold wpX47_take
  refine wl2 (fun fu b q => wX47_take_2 _ n tr fu b q) (fun b q => (1 ≤ b ∧ b ≤ n + 1) ∧ ∀ c, 1 ≤ c → c < b → q c = tr c) (fun b _ => (n + 1 - b).toNat) ?_ 1 na ⟨by omega, fun c c0 c1 => by omega⟩
  rintro b q ⟨hb, hq⟩ fu ih
  try dsimp only
  rw [wX47_take_2]
  refine ⟨fun z => ?_, fun z => ⟨by omega, fun u eu => ⟨by omega, fun q' eq => ⟨by omega, fun b' eb => ?_⟩⟩⟩⟩
  · have e1 : aF q 1 n.toNat = aF tr 1 n.toNat := aF_c _ _ (fun i i0 i1 => hq i i0 (by omega))
    refine wl2 (fun fu k p => wX47_take_27 _ cu ro fu k p) (fun k p => (0 ≤ k ∧ k ≤ 3 * m) ∧ ∀ c, 0 ≤ c → c < k → p c = ro c) (fun k _ => (3 * m - k).toNat) ?_ 0 fo ⟨by omega, fun c c0 c1 => by omega⟩
    rintro k p ⟨hk, hp⟩ fu2 ih2
    try dsimp only
    rw [wX47_take_27, hc]
    refine ⟨by omega, fun w => h q p e1 (aF_c _ _ (fun i i0 i1 => hp i i0 (by omega))), fun w => ⟨by omega, fun u eu p' ep => ⟨by omega, fun k' ek => ?_⟩⟩⟩
    rw [ek]
    refine ih2 (k + 1) p' ⟨by omega, fun c c0 c1 => ?_⟩ (by omega)
    rw [ep]
    by_cases y : c = k
    · rw [y, updI_s, eu]
    · rw [updI_n y]; exact hp c c0 (by omega)
  · rw [eb]
    refine ih (b + 1) q' ⟨by omega, fun c c0 c1 => ?_⟩ (by omega)
    rw [eq]
    by_cases y : c = b
    · rw [y, updI_s, eu]
    · rw [updI_n y]; exact hq c c0 (by omega)
/-- all namings, one after the other -/
theorem T47_n39 {K : Int → (Int → Int) → (Int → Int) → (Int → Int) → (Int → Int) → Prop} (hc : cu 8 = m) (h40 : 0 ≤ m ∧ m ≤ 40) (hn : 0 ≤ n ∧ n ≤ 8) (ht : ∀ t ∈ cnGr pt 8 m, cnTp n t) (hg : ∀ b, 1 ≤ b → b ≤ n → gr b = cnG H n b) (ho : ∀ b t, (1 ≤ b ∧ b ≤ n) → 1 ≤ t → t ≤ n → (go t = cnG H n b ↔ cnLo H n b < t ∧ t ≤ cnHi H n b))
  (hK : ∀ y tr' ro' na' fo' A, A.Nodup → (∀ q, q ∈ A ↔ cnPm n q ∧ cnNa H n (cnAt q)) → ((A = [] ∧ y = 0) ∨ cnBest A (cnFl (cnGr pt 8 m)) (aF na' 1 n.toNat) (aF fo' 0 (3 * m.toNat)) y) → K y tr' ro' na' fo') : ∀ (p : Nat) (y : Int) (tr ro na fo : Int → Int) (A : List (List Int)), cnIn n tr → (100000000 - cnCd tr n.toNat).toNat < p → A.Nodup → y ≤ cnCd tr n.toNat → (∀ q, q ∈ A ↔ (cnPm n q ∧ cnNa H n (cnAt q)) ∧ ¬ qLx (aF tr 1 n.toNat) q) → ((A = [] ∧ y = 0) ∨ cnBest A (cnFl (cnGr pt 8 m)) (aF na 1 n.toNat) (aF fo 0 (3 * m.toNat)) y) → wX47_name_39 K n cu pt gr go (p + 1) y 1 tr ro na fo
  | 0, _, _, _, _, _, _, _, h, _, _, _, _ => by omega
  | p + 1, y, tr, ro, na, fo, A, hp, hm, nA, yC, mA, J => by
    rw [wX47_name_39]
    refine ⟨fun w => absurd w (by decide), fun _ => ?_⟩
    have hP : cnPm n (aF tr 1 n.toNat) := (cnPm_f hn.1).2 hp
    have eN : cnNa H n (cnAt (aF tr 1 n.toNat)) ↔ cnNa H n tr := by
      unfold cnNa
      exact ⟨fun h b b0 b1 => by rw [← cnAt_f (tr := tr) ⟨b0, b1⟩]; exact h b b0 b1, fun h b b0 b1 => by rw [cnAt_f ⟨b0, b1⟩]; exact h b b0 b1⟩
    have d8 : ∀ q : Int → Int, cnIn n q → ∀ i, 1 ≤ i → i ≤ n → 0 ≤ q i ∧ q i ≤ 9 := fun q hq i i0 i1 => by
      have := hq.1 i i0 i1
      omega
    have cb := cnCd_b (d8 tr hp) n.toNat (by omega)
    have ct := cnTen_8 n.toNat (by omega)
    -- what comes after a step that leaves the list B
    have go_on : ∀ (y' : Int) (ro' na' fo' : Int → Int) (B : List (List Int)), B.Nodup → y' ≤ cnCd tr n.toNat + 1 → (∀ q, q ∈ B ↔ (cnPm n q ∧ cnNa H n (cnAt q)) ∧ qLx q (aF tr 1 n.toNat)) → ((B = [] ∧ y' = 0) ∨ cnBest B (cnFl (cnGr pt 8 m)) (aF na' 1 n.toNat) (aF fo' 0 (3 * m.toNat)) y') → wpX47_turn (fun r tr' => wX47_name_39 K n cu pt gr go (p + 1) y' r tr' ro' na' fo') tr n := fun y' ro' na' fo' B nB yB mB J' => by
      refine T47_turn hn hp (fun top => ?_) (fun tr' hp' suc => ?_)
      · rw [wX47_name_39]
        exact ⟨fun _ => hK _ _ _ _ _ B nB (fun q => (mB q).trans ⟨fun h => h.1, fun h => ⟨h, top q h.1⟩⟩) J', fun w => absurd rfl w⟩
      · have lt : ¬ qLx (aF tr' 1 n.toNat) (aF tr 1 n.toNat) := fun w => (suc _ hP).1 w (qLx_r _)
        obtain ⟨k, hk, he, l⟩ := (cnLt_f _ _).1 lt
        have c1 := (cnCd_lt (d8 tr hp) (d8 tr' hp') hk.1 he l n.toNat (by omega)).2 (by omega)
        have c2 := (cnCd_b (d8 tr' hp') n.toNat (by omega)).2
        have c3 := cnTen_8 n.toNat (by omega)
        refine T47_n39 hc h40 hn ht hg ho hK p y' tr' ro' na' fo' B hp' (by omega) nB (by omega) (fun q => (mB q).trans ⟨fun h => ⟨h.1, fun w => ?_⟩, fun h => ⟨h.1, Classical.byContradiction (fun w => h.2 ((suc q h.1.1).2 w))⟩⟩) J'
        exact (suc q h.1.1).1 w h.2
    have mem : ∀ q, cnPm n q → (qLx q (aF tr 1 n.toNat) ↔ ¬ qLx (aF tr 1 n.toNat) q ∨ q = aF tr 1 n.toNat) := fun q hq => by
      constructor
      · intro h
        by_cases w : qLx (aF tr 1 n.toNat) q
        · exact Or.inr (qLx_a h w)
        · exact Or.inl w
      · rintro (h | h)
        · exact (qLx_tot _ _).resolve_right h
        · rw [h]; exact qLx_r _
    refine T47_isNamingB hn hp hg ho (fun N => ?_) (fun N => ?_)
    · -- one naming more
      have nA2 : (A ++ [aF tr 1 n.toNat]).Nodup := by
        rw [List.nodup_append]
        refine ⟨nA, List.pairwise_singleton _ _, fun a ha b hb e => ?_⟩
        rw [List.mem_singleton.1 hb] at e
        rw [e] at ha
        exact ((mA _).1 ha).2 (qLx_r _)
      have mA2 : ∀ q, q ∈ A ++ [aF tr 1 n.toNat] ↔ (cnPm n q ∧ cnNa H n (cnAt q)) ∧ qLx q (aF tr 1 n.toNat) := fun q => by
        rw [List.mem_append, List.mem_singleton, mA]
        constructor
        · rintro (h | h)
          · exact ⟨h.1, (mem q h.1.1).2 (Or.inl h.2)⟩
          · rw [h]; exact ⟨⟨hP, eN.2 N⟩, qLx_r _⟩
        · rintro ⟨h, l⟩
          rcases (mem q h.1).1 l with w | w
          · exact Or.inl ⟨h, w⟩
          · exact Or.inr w
      have low : ∀ a ∈ A, qLx a (aF tr 1 n.toNat) := fun a ha => by
        have := (mA a).1 ha
        exact (mem a this.1.1).2 (Or.inl this.2)
      refine T47_makeRow hc h40 hn.2 hp ht (fun ro' er => ?_)
      have eR : aF ro' 0 (3 * m.toNat) = cnFl (cnGr pt 8 m) (aF tr 1 n.toNat) := by
        rw [← cnR3_fl, er]
        unfold cnFl
        rw [cnRS_c (n := n) (fun i i0 i1 => (cnAt_f ⟨i0, i1⟩).symm) ht]
      refine ⟨fun y0 => ⟨fun w => absurd w (by decide), fun _ => ?_⟩, fun y0 => ?_⟩
      · have eA : A = [] := by
          rcases J with J | J
          · exact J.1
          · have := J.pos
            omega
        refine T47_take hc h40 hn (fun na' fo' e1 e2 => ?_)
        unfold wX47_name_81
        refine ⟨fun w => absurd w (by decide), fun _ => go_on 1 ro' na' fo' _ nA2 (by omega) mA2 (Or.inr ?_)⟩
        rw [eA, List.nil_append, e1, e2, eR]
        exact cnBest_1
      · have J2 : cnBest A (cnFl (cnGr pt 8 m)) (aF na 1 n.toNat) (aF fo 0 (3 * m.toNat)) y := J.resolve_left (fun w => y0 w.2)
        have yp := J2.pos
        refine T47_compareForm hc h40 (fun e => ⟨fun _ => ?_, fun w => absurd (by decide) w⟩) (fun l => ⟨fun w => absurd w (by decide), fun _ => ?_⟩) (fun l => ⟨fun _ => ?_, fun w => absurd (by decide) w⟩)
        · unfold wX47_name_81
          refine ⟨fun _ => ⟨fun _ => ⟨by omega, fun y' ey => ?_⟩, fun w => absurd rfl w⟩, fun w => absurd (by decide) w⟩
          rw [ey]
          exact go_on (y + 1) ro' na fo _ nA2 (by omega) mA2 (Or.inr (cnBest_eq J2 low (by rw [← eR, e])))
        · refine T47_take hc h40 hn (fun na' fo' e1 e2 => ?_)
          unfold wX47_name_81
          refine ⟨fun w => absurd w (by decide), fun _ => go_on 1 ro' na' fo' _ nA2 (by omega) mA2 (Or.inr ?_)⟩
          rw [e1, e2, eR]
          exact cnBest_lt J2 (by rw [← eR]; exact l)
        · unfold wX47_name_81
          refine ⟨fun _ => ⟨fun w => absurd w (by decide), fun _ => ?_⟩, fun w => absurd (by decide) w⟩
          exact go_on y ro' na fo _ nA2 (by omega) mA2 (Or.inr (cnBest_gt J2 (by rw [← eR]; exact l)))
    · refine go_on y ro na fo A nA (by omega) (fun q => (mA q).trans ⟨fun h => ⟨h.1, (mem q h.1.1).2 (Or.inl h.2)⟩, fun h => ⟨h.1, ?_⟩⟩) J
      rcases (mem q h.1.1).1 h.2 with w | w
      · exact w
      · rw [w] at h
        exact absurd (eN.1 h.1.2) N
end

/-! CanonNames, the reference (X47): how many namings, the name, matches, what is told -/
def cnFc : Nat → Int
  | 0 => 1
  | m + 1 => cnFc m * (m + 1)
def cnPd (f : Int → Int) : Nat → Int
  | 0 => 1
  | m + 1 => cnPd f m * f m
/-- how many are in a group; how many namings -/
noncomputable def cnSz (H : Int → List Int) (n g : Int) : Int := cntI (fun b => 1 ≤ b ∧ cnG H n b = g) (n + 1).toNat
noncomputable def cnNs (H : Int → List Int) (n : Int) : Int := cnPd (fun g => cnFc (cnSz H n g).toNat) (cnDf H n).toNat
def cnE8 : Nat → Int
  | 0 => 1
  | m + 1 => cnE8 m * 8
theorem cnE8_8 : ∀ m : Nat, m ≤ 8 → cnE8 m ≤ 16777216 := by
  intro m hm
  have h : ∀ m : Nat, m < 9 → cnE8 m ≤ 16777216 := by decide
  exact h m (by omega)
theorem cntI_or {p q : Int → Prop} : ∀ m : Nat, (∀ i : Int, 0 ≤ i → i < m → ¬ (p i ∧ q i)) → cntI (fun i => p i ∨ q i) m = cntI p m + cntI q m
  | 0, _ => rfl
  | m + 1, h => by
    rw [cntI, cntI, cntI, cntI_or m (fun i i0 i1 => h i i0 (by omega))]
    have := h m (by omega) (by omega)
    by_cases hp : p m
    · rw [pif_t (Or.inl hp), pif_t hp, pif_f (fun w => this ⟨hp, w⟩)]; omega
    · by_cases hq : q m
      · rw [pif_t (Or.inr hq), pif_f hp, pif_t hq]; omega
      · rw [pif_f (fun w => w.elim hp hq), pif_f hp, pif_f hq]; omega
section
variable {bl cu pt hs nw de ms sa sd kc wd sc oc f g gr go tr ro fo na : Int → Int} {a b c d e k n m p q r s t u v x y z nb nu dn gc hd o ke rn st nbk fc i : Int} {A B : Prop} {L : List qA} {l : List Int} {H : Int → List Int}
/-- the numbers of group g among the blanks below x -/
theorem T47_ng18 {K : Int → Prop} {g0 : Int} (hb : bl 8 = n) (hn : 0 ≤ n ∧ n ≤ 8) (hc : 0 ≤ c ∧ c + cntI (fun b => 1 ≤ b ∧ gr b = g0) (n + 1).toNat ≤ 8) (hx : 1 ≤ x ∧ x ≤ cnE8 c.toNat) (hK : x * cnFc (cntI (fun b => 1 ≤ b ∧ gr b = g0) (n + 1).toNat).toNat ≤ cnE8 (c + cntI (fun b => 1 ≤ b ∧ gr b = g0) (n + 1).toNat).toNat → 1 ≤ x * cnFc (cntI (fun b => 1 ≤ b ∧ gr b = g0) (n + 1).toNat).toNat → K (x * cnFc (cntI (fun b => 1 ≤ b ∧ gr b = g0) (n + 1).toNat).toNat)) : ∃ fu : Nat, wX47_namings_18 K g0 bl gr fu x 0 1 := by
  have mono : ∀ b : Int, 0 ≤ b → b ≤ n + 1 → cntI (fun b => 1 ≤ b ∧ gr b = g0) b.toNat ≤ cntI (fun b => 1 ≤ b ∧ gr b = g0) (n + 1).toNat := fun b b0 b1 => by
    have e := cntI_add (p := fun b => 1 ≤ b ∧ gr b = g0) b.toNat ((n + 1).toNat - b.toNat)
    rw [show b.toNat + ((n + 1).toNat - b.toNat) = (n + 1).toNat by omega] at e
    have := (cntI_b (fun i => 1 ≤ (b.toNat : Int) + i ∧ gr ((b.toNat : Int) + i) = g0) ((n + 1).toNat - b.toNat)).1
    omega
  refine wl3 (fun fu y w b => wX47_namings_18 K g0 bl gr fu y w b) (fun y w b => (1 ≤ b ∧ b ≤ n + 1) ∧ w = cntI (fun b => 1 ≤ b ∧ gr b = g0) b.toNat ∧ y = x * cnFc w.toNat ∧ 1 ≤ y ∧ y ≤ cnE8 (c + w).toNat) (fun _ _ b => (n + 1 - b).toNat) ?_ x 0 1 ⟨by omega, ?_, ?_, hx.1, by rw [Int.add_zero]; exact hx.2⟩
  · rintro y w b ⟨hb2, ew, ey, y0, y1⟩ fu ih
    try dsimp only
    rw [wX47_namings_18, hb]
    have wb := cntI_b (fun b => 1 ≤ b ∧ gr b = g0) b.toNat
    have mb := mono b (by omega) hb2.2
    have e8 := cnE8_8 (c + w).toNat (by omega)
    refine ⟨fun z => ?_, fun z => ⟨by omega, fun eg => ?_, fun eg => ?_⟩⟩
    · have eb : b = n + 1 := by omega
      rw [eb] at ew
      rw [ey]
      rw [ey, ew] at y0 y1
      rw [ew]
      exact hK y1 y0
    · unfold wX47_namings_48
      have mb2 := mono (b + 1) (by omega) (by omega)
      rw [cntI_t (by omega) ⟨hb2.1, eg⟩, ← ew] at mb2
      have ef : x * cnFc (w + 1).toNat = y * (w + 1) := by
        rw [show (w + 1).toNat = w.toNat + 1 by omega, cnFc, ← Int.mul_assoc, ← ey, show ((w.toNat : Nat) : Int) = w by omega]
      have le : y * (w + 1) ≤ y * 8 := Int.mul_le_mul_of_nonneg_left (by omega) (by omega)
      have ge : y * 1 ≤ y * (w + 1) := Int.mul_le_mul_of_nonneg_left (by omega) (by omega)
      have nx : y * (w + 1) ≤ cnE8 (c + (w + 1)).toNat := by
        rw [show (c + (w + 1)).toNat = (c + w).toNat + 1 by omega, cnE8]
        omega
      refine ⟨by omega, fun w' ew' => ⟨by omega, fun _ => ?_, fun ng => absurd eg ng⟩⟩
      rw [ew']
      refine ⟨by unfold zL; omega, fun y' ey' => ⟨by omega, fun b' eb => ?_⟩⟩
      rw [eb, ey']
      refine ih _ (w + 1) (b + 1) ⟨by omega, ?_, ef.symm, by omega, nx⟩ (by omega)
      rw [cntI_t (by omega) ⟨hb2.1, eg⟩, ← ew]
    · unfold wX47_namings_48
      refine ⟨by omega, fun w' ew' => ⟨by omega, fun g2 => absurd g2 eg, fun _ => ⟨by omega, fun b' eb => ?_⟩⟩⟩
      rw [ew', eb, Int.add_zero]
      refine ih y w (b + 1) ⟨by omega, ?_, ey, y0, y1⟩ (by omega)
      rw [cntI_f (by omega) (fun v => eg v.2), ← ew]
  · have h0 : cntI (fun b => 1 ≤ b ∧ gr b = g0) ((0 : Int) + 1).toNat = cntI (fun b => 1 ≤ b ∧ gr b = g0) (0 : Int).toNat := cntI_f (by decide) (fun F => absurd F.1 (by decide))
    exact h0.symm
  · show x = x * 1
    rw [Int.mul_one]
theorem T47_namings {post : Int → Prop} (hb : bl 8 = n) (hn : 0 ≤ n ∧ n ≤ 8) (hg : ∀ b, 1 ≤ b → b ≤ n → gr b = cnG H n b) (hc : gc = cnDf H n) (hp : post (cnNs H n)) : wpX47_namings post bl gr gc := by
  unfold wpX47_namings
  have gb := cnDf_b (H := H) hn.1
  have sz : ∀ g0, cntI (fun b => 1 ≤ b ∧ gr b = g0) (n + 1).toNat = cnSz H n g0 := fun g0 => cntI_c (fun b b0 b1 => ⟨fun w => ⟨w.1, by rw [← hg b w.1 (by omega)]; exact w.2⟩, fun w => ⟨w.1, by rw [hg b w.1 (by omega)]; exact w.2⟩⟩)
  have cu1 : ∀ g0 : Int, cntI (fun b => 1 ≤ b ∧ gr b < g0 + 1) (n + 1).toNat = cntI (fun b => 1 ≤ b ∧ gr b < g0) (n + 1).toNat + cntI (fun b => 1 ≤ b ∧ gr b = g0) (n + 1).toNat := fun g0 => by
    rw [← cntI_or _ (fun i _ _ w => by omega)]
    exact cntI_c (fun i _ _ => by constructor <;> intro w <;> omega)
  have le8 : ∀ g0 : Int, cntI (fun b => 1 ≤ b ∧ gr b < g0) (n + 1).toNat ≤ n := fun g0 => by
    have := cntI_ler (p := fun b => 1 ≤ b ∧ gr b < g0) (q := fun b => 1 ≤ b) (n + 1).toNat (fun i _ _ w => w.1)
    rw [cntI_1n hn.1] at this
    exact this
  refine wl2 (fun fu x g => wX47_namings_4 (fun x => post x) bl gr gc fu x g) (fun x g => (0 ≤ g ∧ g ≤ gc) ∧ x = cnPd (fun g => cnFc (cnSz H n g).toNat) g.toNat ∧ 1 ≤ x ∧ x ≤ cnE8 (cntI (fun b => 1 ≤ b ∧ gr b < g) (n + 1).toNat).toNat) (fun _ g => (gc - g).toNat) ?_ 1 0 ⟨by omega, rfl, by decide, ?_⟩
  · rintro x g ⟨h0, ex, x0, x1⟩ fu ih
    try dsimp only
    rw [wX47_namings_4]
    refine ⟨fun z => ?_, fun z => ?_⟩
    · have eg : g = cnDf H n := by omega
      rw [ex, eg]
      exact hp
    · have c1 := cu1 g
      have l8 := le8 (g + 1)
      have c0 := (cntI_b (fun b => 1 ≤ b ∧ gr b < g) (n + 1).toNat).1
      have s0 := (cntI_b (fun b => 1 ≤ b ∧ gr b = g) (n + 1).toNat).1
      refine T47_ng18 hb hn (c := cntI (fun b => 1 ≤ b ∧ gr b < g) (n + 1).toNat) (by omega) ⟨x0, x1⟩ (fun y1 y0 => ⟨by omega, fun g' eg => ?_⟩)
      rw [eg]
      refine ih _ (g + 1) ⟨by omega, ?_, y0, by rw [c1]; exact y1⟩ (by omega)
      rw [show (g + 1).toNat = g.toNat + 1 by omega, cnPd, ← ex, sz, show ((g.toNat : Nat) : Int) = g by omega]
  · have := cntI_b (fun b => 1 ≤ b ∧ gr b < 0) (n + 1).toNat
    have z : ∀ m : Nat, 1 ≤ cnE8 m := fun m => by
      induction m with
      | zero => decide
      | succ m ih => rw [cnE8]; omega
    exact z _
theorem T47_n140 {K : (Int → Int) → Int → Prop} (h40 : 0 ≤ m ∧ m ≤ 40) (hK : ∀ ms' z, z ≤ 480 → shMs ms' z ((aF fo 0 (3 * m.toNat)).flatMap shWd) → K ms' z) : ∃ fu : Nat, wX47_name_140 K fo m fu 0 ms 0 := by
  refine wl3 (fun fu k ms z => wX47_name_140 K fo m fu k ms z) (fun k ms z => (0 ≤ k ∧ k ≤ 3 * m) ∧ z = 4 * k ∧ shMs ms z ((aF fo 0 k.toNat).flatMap shWd)) (fun k _ _ => (3 * m - k).toNat) ?_ 0 ms 0 ⟨by omega, rfl, Int.le_refl 0, rfl⟩
  rintro k ms z ⟨hk, ez, hm⟩ fu ih
  try dsimp only
  rw [wX47_name_140]
  refine ⟨by omega, fun w => hK ms z (by omega) ?_, fun w => ⟨by omega, T47_sayNumber hm (by omega) (fun ms' h' => ⟨by omega, fun k' ek => ?_⟩)⟩⟩
  · have ek : k.toNat = 3 * m.toNat := by omega
    rw [← ek]; exact hm
  · rw [ek]
    refine ih (k + 1) ms' (z + 4) ⟨by omega, by omega, ?_⟩ (by omega)
    rw [show (k + 1).toNat = k.toNat + 1 by omega, aF_s, List.flatMap_append, List.flatMap_cons, List.flatMap_nil, List.append_nil, show 0 + (k.toNat : Int) = k by omega]
    exact h'
/-- what a call of name leaves -/
def cnNm (L : List qA) (n y : Int) (na fo : Int → Int) : Prop := ∃ A : List (List Int), A.Nodup ∧ (∀ q, q ∈ A ↔ cnPm n q ∧ cnNa (cnHa L n).1 n (cnAt q)) ∧ ((A = [] ∧ y = 0) ∨ cnBest A (cnFl L) (aF na 1 n.toNat) (aF fo 0 (3 * L.length)) y)
theorem T47_name {post : Int → (Int → Int) → (Int → Int) → Int → Int → (Int → Int) → (Int → Int) → Int → (Int → Int) → (Int → Int) → (Int → Int) → Int → (Int → Int) → Int → (Int → Int) → (Int → Int) → Int → (Int → Int) → Int → (Int → Int) → (Int → Int) → Int → (Int → Int) → Prop} (hk : ∀ t, 0 ≤ t → t < 64 → kc t = shK t) (hbl : bl 8 = n) (hc : cu 8 = m) (h40 : 0 ≤ m ∧ m ≤ 40) (hn : 0 ≤ n ∧ n ≤ 8) (ht : ∀ t ∈ cnGr pt 8 m, cnTp n t) (hH : hd = 0 ∨ (hd = 1 ∧ cnHd (cnGr pt 8 m) n hs rn gr go gc))
  (h0 : ∀ hs' nw' ro' gr' go' gc' de' d' ms' z' wd' sc' sd', cnHd (cnGr pt 8 m) n hs' ro' gr' go' gc' → st < cnNs (cnHa (cnGr pt 8 m) n).1 n → post (-1) hs' nw' ro' 1 gr' go' gc' tr ro na nbk fo fc oc de' d' ms' z' wd' sc' 0 sd')
  (h1 : ∀ y hs' nw' ro' gr' go' gc' tr' row na' fo' oc' de' d' ms' z' wd' sc' sd', cnHd (cnGr pt 8 m) n hs' ro' gr' go' gc' → cnNs (cnHa (cnGr pt 8 m) n).1 n ≤ st → cnNm (cnGr pt 8 m) n y na' fo' → post y hs' nw' ro' 1 gr' go' gc' tr' row na' n fo' m oc' de' d' ms' z' wd' sc' 0 sd') : wpX47_name post kc bl cu pt hs nw rn hd gr go gc tr ro na nbk fo fc oc de d ms z wd sc sd st := by
  unfold wpX47_name
  refine T47_makeHashes hk hbl hc h40 hn ht hH (fun hs' nw' ro' gr' go' gc' de' d' ms' z' wd' sc' sd' D => ?_)
  refine T47_namings (H := (cnHa (cnGr pt 8 m) n).1) hbl hn D.2.2.1 D.2.2.2.1 ⟨fun w n2 en => ?_, fun w => h0 _ _ _ _ _ _ _ _ _ _ _ _ _ D (by omega)⟩
  rw [hbl] at en
  rw [en]
  refine T47_begin hn (fun tr' ht' => ?_)
  have hp : cnIn n tr' := ⟨fun i i0 i1 => by rw [ht' i i0 i1]; exact ⟨i0, i1⟩, fun i j i0 ij j1 e => by
    rw [ht' i i0 (by omega), ht' j (by omega) j1] at e
    omega⟩
  have ei : aF tr' 1 n.toNat = aF (fun i => i) 1 n.toNat := aF_c _ _ (fun i i0 i1 => ht' i i0 (by omega))
  have cb := (cnCd_b (f := tr') (n := n) (fun i i0 i1 => by rw [ht' i i0 i1]; omega) n.toNat (by omega)).1
  refine ⟨_, T47_n39 (H := (cnHa (cnGr pt 8 m) n).1) hc h40 hn ht D.2.2.1 D.2.2.2.2 (fun y tr2 ro2 na2 fo2 A nA mA J f2 ef => ?_) ((100000000 - cnCd tr' n.toNat).toNat + 1) 0 tr' ro na fo [] hp (by omega) List.nodup_nil cb (fun q => ⟨fun w => absurd w (by simp), fun w => ?_⟩) (Or.inl ⟨rfl, rfl⟩)⟩
  · rw [hc] at ef
    rw [ef]
    refine T47_n140 h40 (fun m2 z2 l2 e2 => ?_)
    refine T47_digestOf hk ⟨e2.1, by omega⟩ e2.2 (fun m3 w3 s3 _ _ => T47_octetsOf (fun oc' _ => ?_))
    refine h1 y _ _ _ _ _ _ _ _ _ _ _ _ _ _ _ _ _ _ D w ⟨A, nA, mA, ?_⟩
    have eL : (cnGr pt 8 m).length = m.toNat := by
      unfold cnGr
      rw [aF_len]
    rw [eL]
    exact J
  · exfalso
    have g := (cnPm_at w.1.1)
    have := cnMin hn.1 g.2
    rw [g.1, ← ei] at this
    exact w.2 this
/-! matches -/
def cnTo (tr : Int → Int) (L G : List qA) : Prop := ∀ t ∈ L, cnRn tr t ∈ G
theorem T47_becomesB (hc : cu 8 = m) (h40 : 0 ≤ m ∧ m ≤ 40) (hn : n ≤ 8) (hp : cnIn n tr) (ht : ∀ t ∈ cnGr pt 8 m, cnTp n t) (ho : 0 ≤ o ∧ o < 9) (hco : 0 ≤ cu o ∧ cu o ≤ 40) (h1 : cnTo tr (cnGr pt 8 m) (cnGr pt o (cu o)) → B) (h0 : ¬ cnTo tr (cnGr pt 8 m) (cnGr pt o (cu o)) → A) : wpX47_becomes (fun r => (r = 0 → A) ∧ (¬ r = 0 → B)) cu pt tr o := by
  unfold wpX47_becomes
  refine wloop (fun fu k => wX47_becomes_2 _ _ o cu pt tr fu k) (fun k => (0 ≤ k ∧ k ≤ m) ∧ ∀ i, 0 ≤ i → i < k → cnRn tr (cnTr pt 8 i) ∈ cnGr pt o (cu o)) (fun k => (m - k).toNat) ?_ 0 ⟨by omega, fun i i0 i1 => by omega⟩
  rintro k ⟨hk, h⟩ fu ih
  try dsimp only
  rw [wX47_becomes_2, hc]
  refine ⟨fun z => ⟨fun w => absurd w (by decide), fun _ => h1 (fun t hm => ?_)⟩, fun z => ?_⟩
  · obtain ⟨i, hi, e⟩ := cnGr_mem.1 hm
    rw [e]; exact h i hi.1 (by omega)
  · obtain ⟨t1, t2, t3⟩ := ht _ (cnGr_mem.2 ⟨k, by omega, rfl⟩)
    unfold wpX47_at
    refine ⟨⟨by omega, by omega⟩, by omega, T47_numbered hn hp t1 ⟨by omega, T47_numbered hn hp t2 ⟨by omega, T47_numbered hn hp t3 (T47_find ho hco (fun j j0 j1 e _ => ⟨fun _ => ⟨by omega, fun k' ek => ?_⟩, fun w => absurd j0 w⟩) (fun no => ⟨fun w => absurd w (by decide), fun _ => ⟨fun _ => h0 (fun C => no (C _ (cnGr_mem.2 ⟨k, by omega, rfl⟩))), fun w => absurd rfl w⟩⟩))⟩⟩⟩
    rw [ek]
    refine ih (k + 1) ⟨by omega, fun i i0 i1 => ?_⟩ (by omega)
    by_cases w : i = k
    · rw [w]
      exact cnGr_mem.2 ⟨j, ⟨j0, j1⟩, e.symm⟩
    · exact h i i0 (by omega)
theorem cnTo_c {tr tr' : Int → Int} {G : List qA} (h : ∀ i, 1 ≤ i → i ≤ n → tr i = tr' i) (ht : ∀ t ∈ L, cnTp n t) : cnTo tr L G ↔ cnTo tr' L G := by
  unfold cnTo
  exact ⟨fun w t hm => by rw [← cnRn_c h (ht t hm)]; exact w t hm, fun w t hm => by rw [cnRn_c h (ht t hm)]; exact w t hm⟩
theorem T47_w61 {K : Int → (Int → Int) → Prop} (hc : cu 8 = m) (h40 : 0 ≤ m ∧ m ≤ 40) (hn : 0 ≤ n ∧ n ≤ 8) (ht : ∀ t ∈ cnGr pt 8 m, cnTp n t) (ho : 0 ≤ o ∧ o < 9) (hco : 0 ≤ cu o ∧ cu o ≤ 40)
  (hK : ∀ y tr' A, A.Nodup → (∀ q, q ∈ A ↔ cnPm n q ∧ cnTo (cnAt q) (cnGr pt 8 m) (cnGr pt o (cu o))) → y = ((A : List (List Int)).length : Int) → K y tr') : ∀ (p : Nat) (y : Int) (tr : Int → Int) (A : List (List Int)), cnIn n tr → (100000000 - cnCd tr n.toNat).toNat < p → A.Nodup → y ≤ cnCd tr n.toNat → (∀ q, q ∈ A ↔ (cnPm n q ∧ cnTo (cnAt q) (cnGr pt 8 m) (cnGr pt o (cu o))) ∧ ¬ qLx (aF tr 1 n.toNat) q) → y = (A.length : Int) → wX47_ways_61 K o n cu pt (p + 1) y 1 tr
  | 0, _, _, _, _, h, _, _, _, _ => by omega
  | p + 1, y, tr, A, hp, hm, nA, yC, mA, J => by
    rw [wX47_ways_61]
    refine ⟨fun w => absurd w (by decide), fun _ => ?_⟩
    have hP : cnPm n (aF tr 1 n.toNat) := (cnPm_f hn.1).2 hp
    have eN : cnTo (cnAt (aF tr 1 n.toNat)) (cnGr pt 8 m) (cnGr pt o (cu o)) ↔ cnTo tr (cnGr pt 8 m) (cnGr pt o (cu o)) := cnTo_c (n := n) (fun i i0 i1 => cnAt_f ⟨i0, i1⟩) ht
    have d8 : ∀ q : Int → Int, cnIn n q → ∀ i, 1 ≤ i → i ≤ n → 0 ≤ q i ∧ q i ≤ 9 := fun q hq i i0 i1 => by
      have := hq.1 i i0 i1
      omega
    have cb := cnCd_b (d8 tr hp) n.toNat (by omega)
    have ct := cnTen_8 n.toNat (by omega)
    have go_on : ∀ (y' : Int) (B : List (List Int)), B.Nodup → y' ≤ cnCd tr n.toNat + 1 → (∀ q, q ∈ B ↔ (cnPm n q ∧ cnTo (cnAt q) (cnGr pt 8 m) (cnGr pt o (cu o))) ∧ qLx q (aF tr 1 n.toNat)) → y' = (B.length : Int) → wpX47_turn (fun r tr' => wX47_ways_61 K o n cu pt (p + 1) y' r tr') tr n := fun y' B nB yB mB J' => by
      refine T47_turn hn hp (fun top => ?_) (fun tr' hp' suc => ?_)
      · rw [wX47_ways_61]
        exact ⟨fun _ => hK _ _ B nB (fun q => (mB q).trans ⟨fun h => h.1, fun h => ⟨h, top q h.1⟩⟩) J', fun w => absurd rfl w⟩
      · have lt : ¬ qLx (aF tr' 1 n.toNat) (aF tr 1 n.toNat) := fun w => (suc _ hP).1 w (qLx_r _)
        obtain ⟨k, hk, he, l⟩ := (cnLt_f _ _).1 lt
        have c1 := (cnCd_lt (d8 tr hp) (d8 tr' hp') hk.1 he l n.toNat (by omega)).2 (by omega)
        have c2 := (cnCd_b (d8 tr' hp') n.toNat (by omega)).2
        refine T47_w61 hc h40 hn ht ho hco hK p y' tr' B hp' (by omega) nB (by omega) (fun q => (mB q).trans ⟨fun h => ⟨h.1, fun w => ?_⟩, fun h => ⟨h.1, Classical.byContradiction (fun w => h.2 ((suc q h.1.1).2 w))⟩⟩) J'
        exact (suc q h.1.1).1 w h.2
    have mem : ∀ q, cnPm n q → (qLx q (aF tr 1 n.toNat) ↔ ¬ qLx (aF tr 1 n.toNat) q ∨ q = aF tr 1 n.toNat) := fun q hq => by
      constructor
      · intro h
        by_cases w : qLx (aF tr 1 n.toNat) q
        · exact Or.inr (qLx_a h w)
        · exact Or.inl w
      · rintro (h | h)
        · exact (qLx_tot _ _).resolve_right h
        · rw [h]; exact qLx_r _
    refine T47_becomesB hc h40 hn.2 hp ht ho hco (fun N => ⟨by omega, fun y' ey => ?_⟩) (fun N => ⟨by omega, fun y' ey => ?_⟩)
    · rw [ey]
      refine go_on (y + 1) (A ++ [aF tr 1 n.toNat]) ?_ (by omega) (fun q => ?_) (by rw [List.length_append, List.length_singleton]; omega)
      · rw [List.nodup_append]
        refine ⟨nA, List.pairwise_singleton _ _, fun a ha b hb e => ?_⟩
        rw [List.mem_singleton.1 hb] at e
        rw [e] at ha
        exact ((mA _).1 ha).2 (qLx_r _)
      · rw [List.mem_append, List.mem_singleton, mA]
        constructor
        · rintro (h | h)
          · exact ⟨h.1, (mem q h.1.1).2 (Or.inl h.2)⟩
          · rw [h]; exact ⟨⟨hP, eN.2 N⟩, qLx_r _⟩
        · rintro ⟨h, l⟩
          rcases (mem q h.1).1 l with w | w
          · exact Or.inl ⟨h, w⟩
          · exact Or.inr w
    · rw [ey, Int.add_zero]
      refine go_on y A nA (by omega) (fun q => (mA q).trans ⟨fun h => ⟨h.1, (mem q h.1.1).2 (Or.inl h.2)⟩, fun h => ⟨h.1, ?_⟩⟩) J
      rcases (mem q h.1.1).1 h.2 with w | w
      · exact w
      · rw [w] at h
        exact absurd (eN.1 h.1.2) N
/-- how many ways there are -/
def cnWy (L G : List qA) (n y : Int) : Prop := ∃ A : List (List Int), A.Nodup ∧ (∀ q, q ∈ A ↔ cnPm n q ∧ cnTo (cnAt q) L G) ∧ y = (A.length : Int)
theorem T47_isKeptB (h1 : 0 ≤ x ∧ x < ke → B) (h0 : ¬ (0 ≤ x ∧ x < ke) → A) : wpX47_isKept (fun r => (r = 0 → A) ∧ (¬ r = 0 → B)) ke x := by
  unfold wpX47_isKept
  exact ⟨fun z => ⟨fun _ => h0 (by omega), fun w => absurd rfl w⟩, fun z => ⟨fun w => ⟨fun _ => h0 (by omega), fun w => absurd rfl w⟩, fun w => ⟨fun w => absurd w (by decide), fun _ => h1 (by omega)⟩⟩⟩
theorem T47_ways {post : Int → (Int → Int) → Int → Prop} (hbl : bl 8 = n) (hc : cu 8 = m) (h40 : 0 ≤ m ∧ m ≤ 40) (hn : 0 ≤ n ∧ n ≤ 8) (ht : ∀ t ∈ cnGr pt 8 m, cnTp n t) (hke : ke ≤ 8) (hco : ∀ o, 0 ≤ o → o < ke → 0 ≤ cu o ∧ cu o ≤ 40)
  (h0 : ¬ (0 ≤ o ∧ o < ke) → post (-1) tr 0) (h1 : (0 ≤ o ∧ o < ke) → ¬ (bl o = n ∧ cu o = m) → post 0 tr 0) (h2 : (0 ≤ o ∧ o < ke) → bl o = n → cu o = m → ∀ y tr', cnWy (cnGr pt 8 m) (cnGr pt o (cu o)) n y → post y tr' 0) : wpX47_ways post bl cu pt ke tr o := by
  unfold wpX47_ways
  refine T47_isKeptB (fun hk n2 en => ?_) h0
  rw [hbl] at en
  rw [en]
  refine ⟨by omega, fun eb => ⟨fun ec => ?_, fun ec => h1 hk (fun w => ec (by rw [hc]; exact w.2))⟩, fun eb => h1 hk (fun w => eb w.1)⟩
  rw [hc] at ec
  refine T47_begin hn (fun tr' ht' => ?_)
  have hp : cnIn n tr' := ⟨fun i i0 i1 => by rw [ht' i i0 i1]; exact ⟨i0, i1⟩, fun i j i0 ij j1 e => by
    rw [ht' i i0 (by omega), ht' j (by omega) j1] at e
    omega⟩
  have ei : aF tr' 1 n.toNat = aF (fun i => i) 1 n.toNat := aF_c _ _ (fun i i0 i1 => ht' i i0 (by omega))
  have cb := (cnCd_b (f := tr') (n := n) (fun i i0 i1 => by rw [ht' i i0 i1]; omega) n.toNat (by omega)).1
  refine ⟨_, T47_w61 hc h40 hn ht (by omega) (hco o hk.1 hk.2) (fun y tr2 A nA mA J => h2 hk eb ec y tr2 ⟨A, nA, mA, J⟩) ((100000000 - cnCd tr' n.toNat).toNat + 1) 0 tr' [] hp (by omega) List.nodup_nil cb (fun q => ⟨fun w => absurd w (by simp), fun w => ?_⟩) rfl⟩
  exfalso
  have g := (cnPm_at w.1.1)
  have := cnMin hn.1 g.2
  rw [g.1, ← ei] at this
  exact w.2 this
theorem T47_isomorphic {post : Int → (Int → Int) → Int → Prop} (hbl : bl 8 = n) (hc : cu 8 = m) (h40 : 0 ≤ m ∧ m ≤ 40) (hn : 0 ≤ n ∧ n ≤ 8) (ht : ∀ t ∈ cnGr pt 8 m, cnTp n t) (hke : ke ≤ 8) (hco : ∀ o, 0 ≤ o → o < ke → 0 ≤ cu o ∧ cu o ≤ 40)
  (h0 : ¬ (0 ≤ o ∧ o < ke) → post (-1) tr 0) (h1 : (0 ≤ o ∧ o < ke) → ¬ (bl o = n ∧ cu o = m) → post 0 tr 0) (h2 : (0 ≤ o ∧ o < ke) → bl o = n → cu o = m → ∀ y tr', cnWy (cnGr pt 8 m) (cnGr pt o (cu o)) n y → post (if 0 < y then 1 else 0) tr' 0) : wpX47_isomorphic post bl cu pt ke tr o := by
  unfold wpX47_isomorphic
  refine T47_ways hbl hc h40 hn ht hke hco (fun w => ⟨fun _ => h0 w, fun z => absurd (by decide) z⟩) (fun w w2 => ⟨fun _ => h1 w w2, fun z => absurd (by decide) z⟩) (fun w e1 e2 y tr' Y => ?_)
  have := h2 w e1 e2 y tr' Y
  obtain ⟨A, _, _, e⟩ := Y
  refine ⟨fun z => ?_, fun z => ?_⟩
  · rw [if_neg (by omega)] at this
    have y0 : y = 0 := by omega
    rw [y0]; exact this
  · rw [if_pos (by omega)] at this
    exact this
theorem T47_equal {post : Int → (Int → Int) → Int → Prop} (hbl : bl 8 = n) (hc : cu 8 = m) (h40 : 0 ≤ m ∧ m ≤ 40) (hn : 0 ≤ n ∧ n ≤ 8) (ht : ∀ t ∈ cnGr pt 8 m, cnTp n t) (hke : ke ≤ 8) (hco : ∀ o, 0 ≤ o → o < ke → 0 ≤ cu o ∧ cu o ≤ 40)
  (h0 : ¬ (0 ≤ o ∧ o < ke) → post (-1) tr 0) (h1 : (0 ≤ o ∧ o < ke) → ¬ (bl o = n ∧ cu o = m ∧ ∀ t ∈ cnGr pt 8 m, t ∈ cnGr pt o (cu o)) → ∀ tr', post 0 tr' 0) (h2 : (0 ≤ o ∧ o < ke) → (bl o = n ∧ cu o = m ∧ ∀ t ∈ cnGr pt 8 m, t ∈ cnGr pt o (cu o)) → ∀ tr', post 1 tr' 0) : wpX47_equal post bl cu pt ke tr o := by
  unfold wpX47_equal
  refine T47_isKeptB (fun hk => ?_) h0
  rw [hbl, hc]
  refine ⟨by omega, fun eb => ⟨fun ec => ?_, fun ec => h1 hk (fun w => ec w.2.1) tr⟩, fun eb => h1 hk (fun w => eb w.1) tr⟩
  refine T47_begin hn (fun tr' ht' => ?_)
  have hp : cnIn n tr' := ⟨fun i i0 i1 => by rw [ht' i i0 i1]; exact ⟨i0, i1⟩, fun i j i0 ij j1 e => by
    rw [ht' i i0 (by omega), ht' j (by omega) j1] at e
    omega⟩
  have nu : ∀ v, cnPt n v → cnNu tr' v = v := fun v hv => by
    unfold cnPt at hv
    unfold cnNu
    by_cases z : v ≤ 0
    · rw [if_pos z, ht' (-v) (by omega) (by omega)]; omega
    · rw [if_neg z]
  have id : ∀ t ∈ cnGr pt 8 m, cnRn tr' t = t := fun t hm => by
    obtain ⟨t1, t2, t3⟩ := ht t hm
    unfold cnRn
    rw [nu _ t1, nu _ t2, nu _ t3]
  have eT : cnTo tr' (cnGr pt 8 m) (cnGr pt o (cu o)) ↔ ∀ t ∈ cnGr pt 8 m, t ∈ cnGr pt o (cu o) := ⟨fun w t hm => by rw [← id t hm]; exact w t hm, fun w t hm => by rw [id t hm]; exact w t hm⟩
  exact T47_becomesB hc h40 hn.2 hp ht (by omega) (hco o hk.1 hk.2) (fun w => h2 hk ⟨eb, ec, eT.1 w⟩ tr') (fun w => h1 hk (fun u => w (eT.2 u.2.2)) tr')
/-! what is told -/
theorem T47_hash {post : Int → (Int → Int) → (Int → Int) → Int → Int → (Int → Int) → (Int → Int) → Int → (Int → Int) → Int → (Int → Int) → Int → (Int → Int) → (Int → Int) → Int → (Int → Int) → Prop} (hk : ∀ t, 0 ≤ t → t < 64 → kc t = shK t) (hbl : bl 8 = n) (hc : cu 8 = m) (h40 : 0 ≤ m ∧ m ≤ 40) (hn : 0 ≤ n ∧ n ≤ 8) (ht : ∀ t ∈ cnGr pt 8 m, cnTp n t) (hH : hd = 0 ∨ (hd = 1 ∧ cnHd (cnGr pt 8 m) n hs rn gr go gc))
  (h : ∀ hs' nw' ro' gr' go' gc' de' d' ms' z' wd' sc' sd', cnHd (cnGr pt 8 m) n hs' ro' gr' go' gc' → post (if (1 ≤ b ∧ b ≤ n) ∧ (0 ≤ i ∧ i ≤ 7) then w32 (((cnHa (cnGr pt 8 m) n).1 b).getD i.toNat 0) else 0) hs' nw' ro' 1 gr' go' gc' de' d' ms' z' wd' sc' 0 sd') : wpX47_hash post kc bl cu pt hs nw rn hd gr go gc de d ms z wd sc sd b i := by
  unfold wpX47_hash
  refine T47_makeHashes hk hbl hc h40 hn ht hH (fun hs' nw' ro' gr' go' gc' de' d' ms' z' wd' sc' sd' D => ?_)
  have P := h hs' nw' ro' gr' go' gc' de' d' ms' z' wd' sc' sd' D
  rw [hbl]
  refine ⟨fun w => by rw [if_neg (by omega)] at P; exact P, fun w => ⟨fun w2 => by rw [if_neg (by omega)] at P; exact P, fun w2 => ⟨fun w3 => by rw [if_neg (by omega)] at P; exact P, fun w3 => ⟨fun w4 => ?_, fun w4 => by rw [if_neg (by omega)] at P; exact P⟩⟩⟩⟩
  have e1 : w32 (8 * b) = 8 * b := w32_id ⟨by omega, by omega⟩
  have e2 : w32 (8 * b + i) = 8 * b + i := w32_id ⟨by omega, by omega⟩
  rw [e1, e2]
  refine ⟨by omega, ?_⟩
  rw [if_pos (by omega), ← D.1 b (by omega) (by omega)] at P
  unfold cnHw at P
  rw [aF_get _ _ _ (by omega), show 8 * b + (i.toNat : Int) = 8 * b + i by omega] at P
  exact P
theorem T47_rounds {post : Int → (Int → Int) → (Int → Int) → Int → Int → (Int → Int) → (Int → Int) → Int → (Int → Int) → Int → (Int → Int) → Int → (Int → Int) → (Int → Int) → Int → (Int → Int) → Prop} (hk : ∀ t, 0 ≤ t → t < 64 → kc t = shK t) (hbl : bl 8 = n) (hc : cu 8 = m) (h40 : 0 ≤ m ∧ m ≤ 40) (hn : 0 ≤ n ∧ n ≤ 8) (ht : ∀ t ∈ cnGr pt 8 m, cnTp n t) (hH : hd = 0 ∨ (hd = 1 ∧ cnHd (cnGr pt 8 m) n hs rn gr go gc))
  (h : ∀ hs' nw' ro' gr' go' gc' de' d' ms' z' wd' sc' sd', cnHd (cnGr pt 8 m) n hs' ro' gr' go' gc' → post (cnHa (cnGr pt 8 m) n).2 hs' nw' ro' 1 gr' go' gc' de' d' ms' z' wd' sc' 0 sd') : wpX47_rounds post kc bl cu pt hs nw rn hd gr go gc de d ms z wd sc sd := by
  unfold wpX47_rounds
  refine T47_makeHashes hk hbl hc h40 hn ht hH (fun hs' nw' ro' gr' go' gc' de' d' ms' z' wd' sc' sd' D => ?_)
  have P := h hs' nw' ro' gr' go' gc' de' d' ms' z' wd' sc' sd' D
  rw [← D.2.1] at P
  exact P
/-- the i-th of group g: -1 for none -/
def cnFi (H : Int → List Int) (n g i v : Int) : Prop := ((1 ≤ v ∧ v ≤ n) ∧ cnG H n v = g ∧ cntI (fun b => 1 ≤ b ∧ cnG H n b = g) v.toNat = i) ∨ (v = -1 ∧ ¬ (0 ≤ i ∧ i < cnSz H n g))
theorem T47_f32 {K : Int → Prop} {C : Prop} (hb : bl 8 = n) (hn : 0 ≤ n ∧ n ≤ 8) (hi : 0 ≤ i ∧ i < 2147483648) (hg : ∀ b, 1 ≤ b → b ≤ n → gr b = cnG H n b) (h1 : ∀ v, (1 ≤ v ∧ v ≤ n) → cnG H n v = x → cntI (fun b => 1 ≤ b ∧ cnG H n b = x) v.toNat = i → K v) (h0 : ¬ (0 ≤ i ∧ i < cnSz H n x) → C) : ∃ fu : Nat, wX47_first_32 K C x bl gr fu i 1 := by
  refine wl2 (fun fu w b => wX47_first_32 K C x bl gr fu w b) (fun w b => (1 ≤ b ∧ b ≤ n + 1) ∧ 0 ≤ w ∧ w + cntI (fun b => 1 ≤ b ∧ cnG H n b = x) b.toNat = i) (fun _ b => (n + 1 - b).toNat) ?_ i 1 ⟨by omega, hi.1, ?_⟩
  · rintro w b ⟨hb2, hw, e⟩ fu ih
    try dsimp only
    rw [wX47_first_32, hb]
    have wb := cntI_b (fun b => 1 ≤ b ∧ cnG H n b = x) b.toNat
    refine ⟨fun z => h0 (fun u => ?_), fun z => ⟨by omega, fun eg => ⟨fun w0 => h1 b (by omega) (by rw [← hg b hb2.1 (by omega)]; exact eg) (by omega), fun w0 => ⟨by omega, fun w' ew => ⟨by omega, fun b' eb => ?_⟩⟩⟩, fun eg => ⟨by omega, fun b' eb => ?_⟩⟩⟩
    · have eb : b = n + 1 := by omega
      rw [eb] at e
      unfold cnSz at u
      omega
    · rw [eb, ew]
      refine ih (w + -1) (b + 1) ⟨by omega, by omega, ?_⟩ (by omega)
      rw [cntI_t (by omega) ⟨hb2.1, by rw [← hg b hb2.1 (by omega)]; exact eg⟩]
      omega
    · rw [eb]
      refine ih w (b + 1) ⟨by omega, hw, ?_⟩ (by omega)
      rw [cntI_f (by omega) (fun u => eg (by rw [hg b hb2.1 (by omega)]; exact u.2))]
      exact e
  · have h0 : cntI (fun b => 1 ≤ b ∧ cnG H n b = x) ((0 : Int) + 1).toNat = cntI (fun b => 1 ≤ b ∧ cnG H n b = x) (0 : Int).toNat := cntI_f (by decide) (fun F => absurd F.1 (by decide))
    have h1 : cntI (fun b => 1 ≤ b ∧ cnG H n b = x) (1 : Int).toNat = 0 := h0
    rw [h1, Int.add_zero]
theorem cnSz_0 (hn : 0 ≤ n) (h : ¬ (0 ≤ x ∧ x < cnDf H n)) : cnSz H n x = 0 := by
  refine cntI_0 (fun b b0 b1 w => h ?_)
  have lt : cnG H n b + 1 ≤ cnDf H n := by
    obtain ⟨c, fc, ec, lc⟩ := cnF_ex (H := H) b.toNat b w.1 (by omega)
    exact cntI_ltr (j := c) (n + 1).toNat (fun i _ _ u => u.1) (by have := fc.1; omega) (by omega) fc (fun u => u.2.2 ec)
  have g0 := (cntI_b (fun c => cnF H c ∧ cnL H c b) (n + 1).toNat).1
  unfold cnG at lt w
  omega
theorem T47_first {post : Int → (Int → Int) → (Int → Int) → Int → Int → (Int → Int) → (Int → Int) → Int → (Int → Int) → Int → (Int → Int) → Int → (Int → Int) → (Int → Int) → Int → (Int → Int) → Prop} (hk : ∀ t, 0 ≤ t → t < 64 → kc t = shK t) (hbl : bl 8 = n) (hc : cu 8 = m) (h40 : 0 ≤ m ∧ m ≤ 40) (hn : 0 ≤ n ∧ n ≤ 8) (ht : ∀ t ∈ cnGr pt 8 m, cnTp n t) (hH : hd = 0 ∨ (hd = 1 ∧ cnHd (cnGr pt 8 m) n hs rn gr go gc))
  (hi : i < 2147483648) (h : ∀ v hs' nw' ro' gr' go' gc' de' d' ms' z' wd' sc' sd', cnHd (cnGr pt 8 m) n hs' ro' gr' go' gc' → cnFi (cnHa (cnGr pt 8 m) n).1 n x i v → post v hs' nw' ro' 1 gr' go' gc' de' d' ms' z' wd' sc' 0 sd') : wpX47_first post kc bl cu pt hs nw rn hd gr go gc de d ms z wd sc sd x i := by
  unfold wpX47_first
  refine T47_makeHashes hk hbl hc h40 hn ht hH (fun hs' nw' ro' gr' go' gc' de' d' ms' z' wd' sc' sd' D => ?_)
  have no : ¬ (0 ≤ i ∧ i < cnSz (cnHa (cnGr pt 8 m) n).1 n x) → post (-1) hs' nw' ro' 1 gr' go' gc' de' d' ms' z' wd' sc' 0 sd' := fun w => h _ _ _ _ _ _ _ _ _ _ _ _ _ _ D (Or.inr ⟨rfl, w⟩)
  have eg := D.2.2.2.1
  have out : ¬ (0 ≤ x ∧ x < gc') → ¬ (0 ≤ i ∧ i < cnSz (cnHa (cnGr pt 8 m) n).1 n x) := fun w => by
    rw [cnSz_0 hn.1 (by rw [← eg]; exact w)]
    omega
  refine ⟨fun w => no (out (by omega)), fun w => ⟨fun w2 => no (out (by omega)), fun w2 => ⟨fun w3 => ?_, fun w3 => no (by omega)⟩⟩⟩
  exact T47_f32 (H := (cnHa (cnGr pt 8 m) n).1) hbl hn ⟨w3, hi⟩ D.2.2.1 (fun v hv e1 e2 => h v _ _ _ _ _ _ _ _ _ _ _ _ _ D (Or.inl ⟨hv, e1, e2⟩)) no
theorem T47_named {post : Int → Int → Prop} (hn : nbk ≤ 8) (h : post (if 1 ≤ b ∧ b ≤ nbk then na b else -1) 0) : wpX47_named post na nbk b := by
  unfold wpX47_named
  refine ⟨fun w => by rw [if_neg (by omega)] at h; exact h, fun w => ⟨fun w2 => by rw [if_neg (by omega)] at h; exact h, fun w2 => ⟨by omega, by rw [if_pos (by omega)] at h; exact h⟩⟩⟩
theorem T47_form {post : Int → Int → Prop} (hn : fc ≤ 40) (h : post (if (0 ≤ i ∧ i < fc) ∧ (0 ≤ k ∧ k ≤ 2) then fo (3 * i + k) else 0) 0) : wpX47_form post fo fc i k := by
  unfold wpX47_form
  refine ⟨fun w => by rw [if_neg (by omega)] at h; exact h, fun w => ⟨fun w2 => by rw [if_neg (by omega)] at h; exact h, fun w2 => ⟨fun w3 => by rw [if_neg (by omega)] at h; exact h, fun w3 => ⟨fun w4 => ⟨by omega, by rw [if_pos (by omega)] at h; exact h⟩, fun w4 => by rw [if_neg (by omega)] at h; exact h⟩⟩⟩⟩
end
