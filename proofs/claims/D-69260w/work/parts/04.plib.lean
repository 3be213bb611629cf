/-! PLIB: plain rows. The family 'Int32 by its bits' is pasted out of kit/laws/BITS.to-paste (a starting text); the rest is ours -/
/-! ===== Int32 by its bits: bt x i ===== -/
def bt (x : Int32) (i : Nat) : Bool := x.toBitVec.getLsbD i
theorem b_ext {x y : Int32} (h : ∀ i, i < 32 → bt x i = bt y i) : x = y := Int32.toBitVec_inj.mp (BitVec.eq_of_getLsbD_eq (fun i hi => h i hi))
theorem b_or (x y : Int32) (i : Nat) : bt (x ||| y) i = (bt x i || bt y i) := by unfold bt; rw [Int32.toBitVec_or, BitVec.getLsbD_or]
theorem b_and (x y : Int32) (i : Nat) : bt (x &&& y) i = (bt x i && bt y i) := by unfold bt; rw [Int32.toBitVec_and, BitVec.getLsbD_and]
theorem b_xor (x y : Int32) (i : Nat) : bt (x ^^^ y) i = (bt x i ^^ bt y i) := by unfold bt; rw [Int32.toBitVec_xor, BitVec.getLsbD_xor]
theorem b_big {x : Int32} {i : Nat} (h : 32 ≤ i) : bt x i = false := BitVec.getLsbD_of_ge _ _ h
theorem b_255 (i : Nat) : bt 255 i = decide (i < 8) := by
  rcases Nat.lt_or_ge i 32 with h | h
  · exact (by decide +kernel : ∀ i, i < 32 → bt 255 i = decide (i < 8)) i h
  · rw [b_big h, decide_eq_false (by omega)]
theorem b_65535 (i : Nat) : bt 65535 i = decide (i < 16) := by
  rcases Nat.lt_or_ge i 32 with h | h
  · exact (by decide +kernel : ∀ i, i < 32 → bt 65535 i = decide (i < 16)) i h
  · rw [b_big h, decide_eq_false (by omega)]
theorem b_m1 : ∀ i, i < 32 → bt (-1) i = true := by decide +kernel
theorem b_0 (i : Nat) : bt 0 i = false := BitVec.getLsbD_zero
theorem s_l : ∀ n, n < 32 → ((nI n &&& 31).toBitVec.smod 32).toNat = n := by decide +kernel
theorem s_u : ∀ n, n < 32 → (((nI n).toUInt32 &&& Int32.toUInt32 31).toBitVec % 32).toNat = n := by decide +kernel
theorem b_shl (n : Nat) (hn : n < 32) (x : Int32) {i : Nat} (hi : i < 32) : bt (x <<< (nI n &&& 31)) i = (decide (n ≤ i) && bt x (i - n)) := by
  unfold bt
  rw [Int32.toBitVec_shiftLeft]
  show (x.toBitVec <<< ((nI n &&& 31).toBitVec.smod 32).toNat).getLsbD i = _
  rw [s_l n hn, BitVec.getLsbD_shiftLeft]
  rcases Nat.lt_or_ge i n with h | h
  · simp [h, Nat.not_le.mpr h]
  · simp [hi, h, Nat.not_lt.mpr h]
theorem b_ushr (n : Nat) (hn : n < 32) (x : Int32) (i : Nat) : bt ((x.toUInt32 >>> ((nI n).toUInt32 &&& Int32.toUInt32 31)).toInt32) i = bt x (n + i) := by
  show (x.toUInt32 >>> ((nI n).toUInt32 &&& Int32.toUInt32 31)).toBitVec.getLsbD i = x.toUInt32.toBitVec.getLsbD (n + i)
  rw [UInt32.toBitVec_shiftRight]
  show (x.toUInt32.toBitVec >>> (((nI n).toUInt32 &&& Int32.toUInt32 31).toBitVec % 32).toNat).getLsbD i = _
  rw [s_u n hn, BitVec.getLsbD_ushiftRight]
theorem b_sshr (n : Nat) (hn : n < 32) (x : Int32) {i : Nat} (hi : i < 32) : bt (x >>> (nI n &&& 31)) i = if n + i < 32 then bt x (n + i) else bt x 31 := by
  unfold bt
  rw [Int32.toBitVec_shiftRight]
  show (x.toBitVec.sshiftRight ((nI n &&& 31).toBitVec.smod 32).toNat).getLsbD i = _
  rw [s_l n hn, BitVec.getLsbD_sshiftRight, BitVec.msb_eq_getLsbD_last]
  simp [hi]
theorem b_shl8 (x : Int32) {i : Nat} (hi : i < 32) : bt (x <<< ((8 : Int32) &&& 31)) i = (decide (8 ≤ i) && bt x (i - 8)) := b_shl 8 (by omega) x hi
theorem b_shl16 (x : Int32) {i : Nat} (hi : i < 32) : bt (x <<< ((16 : Int32) &&& 31)) i = (decide (16 ≤ i) && bt x (i - 16)) := b_shl 16 (by omega) x hi
theorem b_shl24 (x : Int32) {i : Nat} (hi : i < 32) : bt (x <<< ((24 : Int32) &&& 31)) i = (decide (24 ≤ i) && bt x (i - 24)) := b_shl 24 (by omega) x hi
theorem b_sshr8 (x : Int32) {i : Nat} (hi : i < 32) : bt (x >>> ((8 : Int32) &&& 31)) i = if 8 + i < 32 then bt x (8 + i) else bt x 31 := b_sshr 8 (by omega) x hi
/-! ===== loops by an index that runs up ===== -/
theorem nloop {σ : Type} (W : Nat → σ → Prop) (S : Nat → σ) (N : Nat) {k0 : Nat} (hk : k0 ≤ N) (step : ∀ n k, k0 ≤ k → k < N → W n (S (k + 1)) → W (n + 1) (S k)) (exit : ∀ n, W (n + 1) (S N)) : ∃ n, W n (S k0) := by
  have key : ∀ d k, k0 ≤ k → k + d = N → W (d + 1) (S k) := by
    intro d
    induction d with
    | zero => intro k _ h; have : k = N := by omega
              subst this; exact exit 0
    | succ d ih => intro k h0 h; exact step (d + 1) k h0 (by omega) (ih (k + 1) (by omega) (by omega))
  exact ⟨N - k0 + 1, key (N - k0) k0 (Nat.le_refl _) (by omega)⟩
/-- with a way out before the end, and what is known at k -/
theorem nloopI {σ : Type} (W : Nat → σ → Prop) (S : Nat → σ) (I : Nat → Prop) (N : Nat) {k0 : Nat} (hk : k0 ≤ N) (h0 : I k0) (h : ∀ k, k0 ≤ k → k ≤ N → I k → (∀ n, W (n + 1) (S k)) ∨ (k < N ∧ I (k + 1) ∧ ∀ n, W n (S (k + 1)) → W (n + 1) (S k))) : ∃ n, W n (S k0) := by
  have key : ∀ d k, k0 ≤ k → k + d = N → I k → W (d + 1) (S k) := by
    intro d
    induction d with
    | zero =>
      intro k h1 h2 h3
      rcases h k h1 (by omega) h3 with q | ⟨q, _⟩
      · exact q 0
      · omega
    | succ d ih =>
      intro k h1 h2 h3
      rcases h k h1 (by omega) h3 with q | ⟨_, q2, q3⟩
      · exact q (d + 1)
      · exact q3 (d + 1) (ih (k + 1) (by omega) (by omega) q2)
  exact ⟨N - k0 + 1, key (N - k0) k0 (Nat.le_refl _) (by omega) h0⟩
/-! ===== bounds ===== -/
theorem vin {i m : Int32} {n : Nat} (hm : m = nI n) (hn : n < 2 ^ 31) (h0 : 0 ≤ i) (h1 : i < m) : vp_in i n := by
  rw [vp_in_iff]
  rw [Int32.le_iff_toInt_le] at h0
  rw [Int32.lt_iff_toInt_lt, hm, nI_toInt hn] at h1
  exact ⟨h0, h1⟩
theorem nIb {k c : Nat} (h : k < c) (hc : c < 2 ^ 31) : 0 ≤ nI k ∧ nI k < nI c := ⟨nI_pos' (by omega), nI_lt h hc⟩
/-- a number in range is some nI -/
theorem nIx {x m : Int32} {n : Nat} (hm : m = nI n) (hn : n < 2 ^ 31) (h0 : 0 ≤ x) (h1 : x < m) : ∃ k, k < n ∧ x = nI k := vp_in_of (vin hm hn h0 h1) hn
theorem nIle {a b : Nat} (ha : a < 2 ^ 31) (hb : b < 2 ^ 31) : nI a ≤ nI b ↔ a ≤ b := nI_leI ha hb
/-- the bit tests that Java writes -/
theorem bt_test {x : Int32} {k : Nat} (hk : k < 32) : ((x >>> (nI k &&& 31)) &&& 1 = 1) ↔ bt x k = true := by
  have e : bt ((x >>> (nI k &&& 31)) &&& 1) 0 = bt x k := by
    rw [b_and, b_sshr k hk x (by omega)]
    have : bt 1 0 = true := by decide
    rw [this]; simp only [Nat.add_zero, hk, if_true, Bool.and_true]
  constructor
  · intro h; rw [← e, h]; decide
  · intro h
    apply b_ext
    intro i hi
    rw [b_and]
    rcases Nat.eq_zero_or_pos i with rfl | hp
    · have h2 := e; rw [b_and] at h2; rw [h2, h]; decide
    · have : ∀ i, i < 32 → 0 < i → bt 1 i = false := by decide +kernel
      rw [this i hi hp]; simp
theorem bt_test0 {x : Int32} {k : Nat} (hk : k < 32) : ((x >>> (nI k &&& 31)) &&& 1 = 0) ↔ bt x k = false := by
  constructor
  · intro h
    cases hb : bt x k with
    | false => rfl
    | true => rw [(bt_test hk).mpr hb] at h; exact absurd h (by decide)
  · intro h
    apply b_ext
    intro i hi
    rw [b_and, b_0]
    rcases Nat.eq_zero_or_pos i with rfl | hp
    · rw [b_sshr k hk x (by omega)]; simp only [Nat.add_zero, hk, if_true, h, Bool.false_and]
    · have : ∀ i, i < 32 → 0 < i → bt 1 i = false := by decide +kernel
      rw [this i hi hp]; simp
theorem bt_one : ∀ k, k < 32 → ∀ i, i < 32 → bt ((1 : Int32) <<< (nI k &&& 31)) i = decide (i = k) := by decide +kernel
theorem bt_zero {x : Int32} : x = 0 ↔ ∀ i, i < 32 → bt x i = false := ⟨fun h i _ => by rw [h, b_0], fun h => b_ext fun i hi => by rw [h i hi, b_0]⟩
theorem bt_not (x : Int32) {i : Nat} (hi : i < 32) : bt (x ^^^ (-1)) i = !(bt x i) := by rw [b_xor, b_m1 i hi]; simp
/-! ===== counting ===== -/
def cnt (p : Nat → Bool) : Nat → Nat
  | 0 => 0
  | n + 1 => cnt p n + if p n then 1 else 0
theorem cnt_le (p : Nat → Bool) : ∀ n, cnt p n ≤ n
  | 0 => Nat.le_refl 0
  | n + 1 => by have := cnt_le p n; unfold cnt; split <;> omega
theorem cnt_congr {p q : Nat → Bool} : ∀ {n : Nat}, (∀ i, i < n → p i = q i) → cnt p n = cnt q n
  | 0, _ => rfl
  | n + 1, h => by unfold cnt; rw [cnt_congr (n := n) (fun i hi => h i (by omega)), h n (by omega)]
/-- one place changes -/
theorem cnt_upd {p q : Nat → Bool} {k : Nat} : ∀ {n : Nat}, k < n → (∀ i, i < n → i ≠ k → p i = q i) → cnt q n + (if p k then 1 else 0) = cnt p n + (if q k then 1 else 0)
  | 0, h, _ => by omega
  | n + 1, h, e => by
    unfold cnt
    rcases Nat.lt_or_ge k n with hk | hk
    · have := cnt_upd (n := n) hk (fun i hi hne => e i (by omega) hne)
      rw [e n (by omega) (by omega)]
      omega
    · have : k = n := by omega
      subst this
      rw [cnt_congr (p := p) (q := q) (n := k) (fun i hi => e i (by omega) (by omega))]
      omega
theorem cnt_zero {p : Nat → Bool} : ∀ {n : Nat}, cnt p n = 0 ↔ ∀ i, i < n → p i = false
  | 0 => ⟨fun _ i h => by omega, fun _ => rfl⟩
  | n + 1 => by
    unfold cnt
    constructor
    · intro h i hi
      have h1 : cnt p n = 0 := by omega
      rcases Nat.lt_or_ge i n with q | q
      · exact cnt_zero.mp h1 i q
      · have : i = n := by omega
        subst this
        cases hp : p i with
        | false => rfl
        | true => rw [hp] at h; simp at h
    · intro h
      rw [cnt_zero.mpr (fun i hi => h i (by omega)), h n (by omega)]; rfl
