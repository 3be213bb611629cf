/-! ZPOP: counting ones, zeros at the end (printed by tools/zpop.py) -/
def zpS (f : Nat → Nat) : Nat → Nat
  | 0 => 0
  | n + 1 => zpS f n + f n
def zpV (B : Nat) : (Nat → Nat) → Nat → Nat
  | _, 0 => 0
  | f, n + 1 => B * zpV B (fun i => f (i + 1)) n + f 0
theorem zpV_c {B : Nat} : ∀ {n : Nat} {f g : Nat → Nat}, (∀ i, i < n → f i = g i) → zpV B f n = zpV B g n
  | 0, _, _, _ => rfl
  | n + 1, f, g, h => by
    rw [zpV, zpV, h 0 (by omega), zpV_c (n := n) (fun i hi => h (i + 1) (by omega))]
theorem zpV_add {B : Nat} : ∀ {n : Nat} {f g : Nat → Nat}, zpV B f n + zpV B g n = zpV B (fun i => f i + g i) n
  | 0, _, _ => rfl
  | n + 1, f, g => by
    rw [zpV, zpV, zpV, ← zpV_add (n := n), Nat.mul_add]; omega
theorem zp_and {s a b x y : Nat} (ha : a < 2 ^ s) (hb : b < 2 ^ s) : (2 ^ s * x + a) &&& (2 ^ s * y + b) = 2 ^ s * (x &&& y) + (a &&& b) := by
  apply Nat.eq_of_testBit_eq
  intro j
  rw [Nat.testBit_and, Nat.testBit_two_pow_mul_add _ ha, Nat.testBit_two_pow_mul_add _ hb, Nat.testBit_two_pow_mul_add _ (Nat.and_lt_two_pow a hb)]
  by_cases h : j < s
  · rw [if_pos h, if_pos h, if_pos h, Nat.testBit_and]
  · rw [if_neg h, if_neg h, if_neg h, Nat.testBit_and]
theorem zpV_and {s B : Nat} (hB : B = 2 ^ s) : ∀ {n : Nat} {f g : Nat → Nat}, (∀ i, f i < B) → (∀ i, g i < B) → zpV B f n &&& zpV B g n = zpV B (fun i => f i &&& g i) n
  | 0, _, _, _, _ => by rw [zpV, zpV, zpV]; rfl
  | n + 1, f, g, hf, hg => by
    have := zpV_and hB (n := n) (fun i => hf (i + 1)) (fun i => hg (i + 1))
    subst hB
    rw [zpV, zpV, zpV, zp_and (hf 0) (hg 0), this]
theorem zpV_pair {B : Nat} : ∀ {n : Nat} {f : Nat → Nat}, zpV B f (2 * n) = zpV (B * B) (fun i => f (2 * i) + B * f (2 * i + 1)) n
  | 0, _ => rfl
  | n + 1, f => by
    have ih := zpV_pair (B := B) (n := n) (f := fun i => f (i + 1 + 1))
    rw [show 2 * (n + 1) = 2 * n + 1 + 1 by omega, zpV, zpV, zpV, ih, Nat.mul_add, ← Nat.mul_assoc, Nat.add_assoc]
    have e : zpV (B * B) (fun i => f (2 * i + 1 + 1) + B * f (2 * i + 1 + 1 + 1)) n = zpV (B * B) (fun i => f (2 * (i + 1)) + B * f (2 * (i + 1) + 1)) n := zpV_c (fun i _ => by
      rw [show 2 * (i + 1) = 2 * i + 1 + 1 by omega])
    rw [e, Nat.add_comm (B * f (0 + 1)) (f 0)]
theorem zpV_last {B : Nat} : ∀ {n : Nat} {g : Nat → Nat}, g n = 0 → zpV B g (n + 1) = zpV B g n
  | 0, g, h => by rw [zpV, zpV, h]; rfl
  | n + 1, g, h => by rw [zpV, zpV_last (n := n) (g := fun i => g (i + 1)) h]; rfl
theorem zpV_sh {B : Nat} {n : Nat} {f : Nat → Nat} (hB : 0 < B) (h0 : f 0 < B) (hn : f n = 0) : zpV B f n / B = zpV B (fun i => f (i + 1)) n := by
  cases n with
  | zero => exact Nat.zero_div _
  | succ n => rw [zpV, Nat.mul_add_div hB, Nat.div_eq_of_lt h0, Nat.add_zero, zpV_last (g := fun i => f (i + 1)) hn]
theorem zpV_dig {B : Nat} (hB : 0 < B) : ∀ {n U : Nat}, U < B ^ n → zpV B (fun i => U / B ^ i % B) n = U
  | 0, U, h => by rw [zpV]; rw [Nat.pow_zero] at h; omega
  | n + 1, U, h => by
    have ih := zpV_dig hB (n := n) (U := U / B) (by rw [Nat.div_lt_iff_lt_mul hB, ← Nat.pow_succ]; exact h)
    have e : zpV B (fun i => U / B ^ (i + 1) % B) n = zpV B (fun i => U / B / B ^ i % B) n := zpV_c (fun i _ => by rw [Nat.div_div_eq_div_mul, Nat.pow_succ'])
    rw [zpV, e, ih, Nat.pow_zero, Nat.div_one]
    exact Nat.div_add_mod U B
theorem zpS_pair {f : Nat → Nat} : ∀ n, zpS f (2 * n) = zpS (fun i => f (2 * i) + f (2 * i + 1)) n
  | 0 => rfl
  | n + 1 => by rw [show 2 * (n + 1) = 2 * n + 1 + 1 by omega, zpS, zpS, zpS, zpS_pair n]; omega
/-- ones by twos, fours and eights -/
theorem zp_steps {b : Nat → Nat} {n : Nat} (b2 : ∀ i, b i < 2) (b0 : ∀ i, 2 * (2 * (2 * n)) ≤ i → b i = 0) : ∃ h : Nat → Nat, (∀ i, h i ≤ 8) ∧ zpS h n = zpS b (2 * (2 * (2 * n))) ∧
    ∃ N1 N2, N1 + (zpV 2 b (2 * (2 * (2 * n))) / 2 &&& zpV 4 (fun _ => 1) (2 * (2 * n))) = zpV 2 b (2 * (2 * (2 * n))) ∧ N2 = (N1 &&& zpV 16 (fun _ => 3) (2 * n)) + (N1 / 4 &&& zpV 16 (fun _ => 3) (2 * n)) ∧ (∃ g : Nat → Nat, (∀ i, g i ≤ 4) ∧ N2 = zpV 16 g (2 * n)) ∧ ((N2 + N2 / 16) &&& zpV 256 (fun _ => 15) n) = zpV 256 h n := by
  obtain ⟨e, he⟩ : ∃ e : Nat → Nat, ∀ i, e i = b (2 * i) + b (2 * i + 1) := ⟨_, fun i => rfl⟩
  obtain ⟨g, hg⟩ : ∃ g : Nat → Nat, ∀ i, g i = e (2 * i) + e (2 * i + 1) := ⟨_, fun i => rfl⟩
  obtain ⟨h, hh⟩ : ∃ h : Nat → Nat, ∀ i, h i = g (2 * i) + g (2 * i + 1) := ⟨_, fun i => rfl⟩
  have e2 : ∀ i, e i ≤ 2 := fun i => by have := he i; have := b2 (2 * i); have := b2 (2 * i + 1); omega
  have g4 : ∀ i, g i ≤ 4 := fun i => by have := hg i; have := e2 (2 * i); have := e2 (2 * i + 1); omega
  have h8 : ∀ i, h i ≤ 8 := fun i => by have := hh i; have := g4 (2 * i); have := g4 (2 * i + 1); omega
  have e0 : ∀ i, 2 * (2 * n) ≤ i → e i = 0 := fun i hi => by rw [he, b0 _ (by omega), b0 _ (by omega)]
  have g0 : ∀ i, 2 * n ≤ i → g i = 0 := fun i hi => by rw [hg, e0 _ (by omega), e0 _ (by omega)]
  have ee : e = fun i => b (2 * i) + b (2 * i + 1) := funext he
  have eg : g = fun i => e (2 * i) + e (2 * i + 1) := funext hg
  have eh : h = fun i => g (2 * i) + g (2 * i + 1) := funext hh
  refine ⟨h, h8, ?_, zpV 4 e (2 * (2 * n)), zpV 16 g (2 * n), ?_, ?_, ⟨g, g4, rfl⟩, ?_⟩
  · rw [zpS_pair, ← ee, zpS_pair, ← eg, zpS_pair, ← eh]
  · have u1 : zpV 2 b (2 * (2 * (2 * n))) = zpV 4 (fun i => b (2 * i) + 2 * b (2 * i + 1)) (2 * (2 * n)) := zpV_pair
    have u2 : zpV 2 b (2 * (2 * (2 * n))) / 2 = zpV 2 (fun i => b (i + 1)) (2 * (2 * (2 * n))) := zpV_sh (by decide) (b2 0) (b0 _ (Nat.le_refl _))
    have u3 : zpV 2 (fun i => b (i + 1)) (2 * (2 * (2 * n))) = zpV 4 (fun i => b (2 * i + 1) + 2 * b (2 * i + 1 + 1)) (2 * (2 * n)) := zpV_pair
    have u4 : zpV 4 (fun i => b (2 * i + 1) + 2 * b (2 * i + 1 + 1)) (2 * (2 * n)) &&& zpV 4 (fun _ => 1) (2 * (2 * n)) = zpV 4 (fun i => (b (2 * i + 1) + 2 * b (2 * i + 1 + 1)) &&& 1) (2 * (2 * n)) := zpV_and (s := 2) rfl (fun i => by have := b2 (2 * i + 1); have := b2 (2 * i + 1 + 1); omega) (fun _ => by decide)
    have u5 : zpV 4 (fun i => (b (2 * i + 1) + 2 * b (2 * i + 1 + 1)) &&& 1) (2 * (2 * n)) = zpV 4 (fun i => b (2 * i + 1)) (2 * (2 * n)) := zpV_c (fun i _ => by
      have := b2 (2 * i + 1)
      rw [Nat.and_one_is_mod]; omega)
    rw [u2, u3, u4, u5, u1, zpV_add]
    exact zpV_c (fun i _ => by rw [he]; omega)
  · have u1 : zpV 4 e (2 * (2 * n)) = zpV 16 (fun i => e (2 * i) + 4 * e (2 * i + 1)) (2 * n) := zpV_pair
    have u2 : zpV 4 e (2 * (2 * n)) / 4 = zpV 4 (fun i => e (i + 1)) (2 * (2 * n)) := zpV_sh (by decide) (by have := e2 0; omega) (e0 _ (Nat.le_refl _))
    have u3 : zpV 4 (fun i => e (i + 1)) (2 * (2 * n)) = zpV 16 (fun i => e (2 * i + 1) + 4 * e (2 * i + 1 + 1)) (2 * n) := zpV_pair
    have m : ∀ x : Nat, x &&& 3 = x % 4 := fun x => Nat.and_two_pow_sub_one_eq_mod x 2
    have u4 : zpV 16 (fun i => e (2 * i) + 4 * e (2 * i + 1)) (2 * n) &&& zpV 16 (fun _ => 3) (2 * n) = zpV 16 (fun i => (e (2 * i) + 4 * e (2 * i + 1)) &&& 3) (2 * n) := zpV_and (s := 4) rfl (fun i => by have := e2 (2 * i); have := e2 (2 * i + 1); omega) (fun _ => by decide)
    have u5 : zpV 16 (fun i => e (2 * i + 1) + 4 * e (2 * i + 1 + 1)) (2 * n) &&& zpV 16 (fun _ => 3) (2 * n) = zpV 16 (fun i => (e (2 * i + 1) + 4 * e (2 * i + 1 + 1)) &&& 3) (2 * n) := zpV_and (s := 4) rfl (fun i => by have := e2 (2 * i + 1); have := e2 (2 * i + 1 + 1); omega) (fun _ => by decide)
    rw [u2, u3, u5, u1, u4, zpV_add]
    exact zpV_c (fun i _ => by
      have := e2 (2 * i); have := e2 (2 * i + 1)
      rw [hg, m, m]; omega)
  · have u2 : zpV 16 g (2 * n) / 16 = zpV 16 (fun i => g (i + 1)) (2 * n) := zpV_sh (by decide) (by have := g4 0; omega) (g0 _ (Nat.le_refl _))
    have u3 : zpV 16 (fun i => g i + g (i + 1)) (2 * n) = zpV 256 (fun i => (g (2 * i) + g (2 * i + 1)) + 16 * (g (2 * i + 1) + g (2 * i + 1 + 1))) n := zpV_pair (B := 16) (f := fun i => g i + g (i + 1))
    have m : ∀ x : Nat, x &&& 15 = x % 16 := fun x => Nat.and_two_pow_sub_one_eq_mod x 4
    have u4 : zpV 256 (fun i => (g (2 * i) + g (2 * i + 1)) + 16 * (g (2 * i + 1) + g (2 * i + 1 + 1))) n &&& zpV 256 (fun _ => 15) n = zpV 256 (fun i => ((g (2 * i) + g (2 * i + 1)) + 16 * (g (2 * i + 1) + g (2 * i + 1 + 1))) &&& 15) n := zpV_and (s := 8) rfl (fun i => by have := g4 (2 * i); have := g4 (2 * i + 1); have := g4 (2 * i + 1 + 1); omega) (fun _ => by decide)
    rw [u2, zpV_add, u3, u4]
    exact zpV_c (fun i _ => by
      have := g4 (2 * i); have := g4 (2 * i + 1)
      rw [hh, m]; omega)
theorem zpV_le {B c : Nat} {f : Nat → Nat} (h : ∀ i, f i ≤ c) : ∀ n, zpV B f n ≤ zpV B (fun _ => c) n := by
  intro n
  induction n generalizing f with
  | zero => exact Nat.le_refl 0
  | succ n ih =>
    rw [zpV, zpV]
    have a := ih (f := fun i => f (i + 1)) (fun i => h (i + 1))
    have b := Nat.mul_le_mul_left B a
    have := h 0
    omega
theorem zb_m {x : Int} {k w : Nat} (hk : k < w) : zb (x % 2 ^ w) k = zb x k := by
  unfold zb
  have e : (2 : Int) ^ w = 2 ^ k * (2 * 2 ^ (w - k - 1)) := by
    rw [← Int.pow_succ', ← Int.pow_add]; congr 1; omega
  have hp : (0 : Int) < 2 ^ k := Int.pow_pos (by decide)
  have h1 := Int.mul_ediv_add_emod x (2 ^ w)
  have h2 : x = x % 2 ^ w + 2 ^ k * (2 * (2 ^ (w - k - 1) * (x / 2 ^ w))) := by
    rw [← Int.mul_assoc 2, ← Int.mul_assoc, ← e]; omega
  have h3 : x / 2 ^ k = (x % 2 ^ w) / 2 ^ k + 2 * (2 ^ (w - k - 1) * (x / 2 ^ w)) := by
    conv => lhs; rw [h2]
    exact Int.add_mul_ediv_left _ _ (Int.ne_of_gt hp)
  rw [h3]; omega
theorem zb_nat (u k : Nat) : zb (u : Int) k = ((u / 2 ^ k % 2 : Nat) : Int) := by
  unfold zb; push_cast; rfl
theorem cnt_zpS (x : Int) (w : Nat) : ∀ n, n ≤ w → cntI (fun i => zb x i.toNat = 1) n = (zpS (fun i => (x % 2 ^ w).toNat / 2 ^ i % 2) n : Int)
  | 0, _ => rfl
  | n + 1, h => by
    rw [cntI, zpS, cnt_zpS x w n (by omega), Int.toNat_natCast, Int.natCast_add, ← zb_nat, Int.toNat_of_nonneg (Int.emod_nonneg _ (Int.ne_of_gt (Int.pow_pos (by decide)))), zb_m (by omega)]
    rcases zb_01 x n with e | e
    · rw [e, pif_f (by decide)]
    · rw [e, pif_t rfl]
/-- a number over 2 ^ t -/
theorem zb_sp {a r : Int} {t : Nat} (h0 : 0 ≤ r) (h1 : r < 2 ^ t) (k : Nat) : zb (2 ^ t * a + r) k = if k < t then zb r k else zb a (k - t) := by
  have ht : (0 : Int) < 2 ^ t := Int.pow_pos (by decide)
  by_cases hk : k < t
  · rw [if_pos hk, ← zb_m (w := t) hk, Int.mul_add_emod_self_left, Int.emod_eq_of_lt h0 h1]
  · rw [if_neg hk]
    unfold zb
    have e : (2 : Int) ^ k = 2 ^ t * 2 ^ (k - t) := by rw [← Int.pow_add]; congr 1; omega
    have h2 : (2 ^ t * a + r) / 2 ^ t = a := by
      rw [Int.mul_add_ediv_left _ _ (Int.ne_of_gt ht), Int.ediv_eq_zero_of_lt h0 h1, Int.add_zero]
    rw [e, ← Int.ediv_ediv_of_nonneg (Int.le_of_lt ht), h2]
theorem zb_ones (t k : Nat) : zb (2 ^ t - 1) k = 1 ↔ k < t := by
  have := zb_not (-(2 ^ t)) k
  have hn := zb_sp (a := -1) (r := 0) (t := t) (by decide) (Int.pow_pos (by decide)) k
  rw [show (2 : Int) ^ t * -1 + 0 = -(2 ^ t) by omega] at hn
  rw [show - -(2 : Int) ^ t - 1 = 2 ^ t - 1 by omega, hn] at this
  rw [this]
  by_cases hk : k < t
  · rw [if_pos hk]; simp [hk, zb_zero]
  · rw [if_neg hk]
    have : zb (-1) (k - t) = 1 := by have := (zb_not 0 (k - t)).mpr (by rw [zb_zero]; decide); simpa using this
    simp [hk, this]
/-- the lowest one -/
theorem zb_low {x : Int} {w : Nat} (h : ∃ k, k < w ∧ zb x k = 1) : ∃ t, t < w ∧ zb x t = 1 ∧ (∀ j, j < t → zb x j = 0) ∧ ∃ q, x = 2 ^ t * (2 * q + 1) := by
  have key : ∀ n, (∃ t, t < n ∧ zb x t = 1 ∧ ∀ j, j < t → zb x j = 0) ∨ ∀ j, j < n → zb x j = 0 := by
    intro n
    induction n with
    | zero => exact Or.inr (fun j hj => by omega)
    | succ n ih =>
      rcases ih with ⟨t, a, b, c⟩ | ih
      · exact Or.inl ⟨t, by omega, b, c⟩
      · rcases zb_01 x n with e | e
        · exact Or.inr (fun j hj => by
            by_cases hjn : j = n
            · subst hjn; exact e
            · exact ih j (by omega))
        · exact Or.inl ⟨n, by omega, e, ih⟩
  rcases key w with ⟨t, a, b, c⟩ | z
  · refine ⟨t, a, b, c, ?_⟩
    have dv : ∀ n, (∀ j, j < n → zb x j = 0) → ∃ q, x = 2 ^ n * q := by
      intro n
      induction n with
      | zero => exact fun _ => ⟨x, by rw [Int.pow_zero, Int.one_mul]⟩
      | succ n ih =>
        intro hz
        obtain ⟨q, e⟩ := ih (fun j hj => hz j (by omega))
        have := hz n (by omega)
        unfold zb at this
        rw [e, Int.mul_ediv_cancel_left _ (Int.ne_of_gt (Int.pow_pos (by decide)))] at this
        refine ⟨q / 2, ?_⟩
        rw [Int.pow_succ, Int.mul_assoc, show 2 * (q / 2) = q by omega]; exact e
    obtain ⟨q, e⟩ := dv t c
    unfold zb at b
    rw [e, Int.mul_ediv_cancel_left _ (Int.ne_of_gt (Int.pow_pos (by decide)))] at b
    exact ⟨q / 2, by rw [show 2 * (q / 2) + 1 = q by omega]; exact e⟩
  · obtain ⟨k, hk, e⟩ := h
    rw [z k hk] at e; exact absurd e (by decide)
/-- taking one away from it -/
theorem zb_dec {x : Int} {t : Nat} {q : Int} (e : x = 2 ^ t * (2 * q + 1)) (k : Nat) : zb (x - 1) k = 1 ↔ k < t ∨ (t < k ∧ zb x k = 1) := by
  have ht : (0 : Int) < 2 ^ t := Int.pow_pos (by decide)
  have e1 : x - 1 = 2 ^ t * (2 * q) + (2 ^ t - 1) := by rw [e, Int.mul_add]; omega
  have e2 : x = 2 ^ t * (2 * q + 1) + 0 := by rw [e]; omega
  have h1 := zb_sp (a := 2 * q) (r := 2 ^ t - 1) (t := t) (by omega) (by omega) k
  have h2 := zb_sp (a := 2 * q + 1) (r := 0) (t := t) (by omega) ht k
  rw [← e1] at h1
  rw [← e2] at h2
  by_cases hk : k < t
  · rw [if_pos hk] at h1
    rw [h1, zb_ones]; simp [hk]
  · rw [if_neg hk] at h1 h2
    rw [h1, h2]
    by_cases hkt : k = t
    · subst hkt
      rw [Nat.sub_self]
      unfold zb
      simp
    · have : ∃ m, k - t = m + 1 := ⟨k - t - 1, by omega⟩
      obtain ⟨m, em⟩ := this
      rw [em]
      have : zb (2 * q) (m + 1) = zb (2 * q + 1) (m + 1) := by
        unfold zb
        rw [Int.pow_succ', ← Int.ediv_ediv_of_nonneg (by decide), ← Int.ediv_ediv_of_nonneg (by decide), show 2 * q / 2 = q by omega, show (2 * q + 1) / 2 = q by omega]
      rw [this]
      constructor
      · exact fun z => Or.inr ⟨by omega, z⟩
      · rintro (z | z)
        · omega
        · exact z.2
def zl2_ (a n : Int) : Int := if a ≤ 4 then n + a / 2 else n + 2 + a / 4 / 2
def zl4_ (a n : Int) : Int := if a ≤ 16 then zl2_ a n else zl2_ (a / 16) (n + 4)
def zl8_ (a n : Int) : Int := if a ≤ 256 then zl4_ a n else zl4_ (a / 256) (n + 8)
def zlad (a : Int) : Int := if a ≤ 65536 then zl8_ a 1 else zl8_ (a / 65536) 17
theorem zlad_t : ∀ t : Nat, t < 32 → 0 < t → zlad (2 ^ t - 1) = t := by decide
