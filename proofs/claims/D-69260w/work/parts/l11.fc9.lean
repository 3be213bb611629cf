/-! FacetCountsModel (X53): fits, kept, but; reckon whole -/
def b2i (b : Bool) : Int32 := if b then 1 else 0
theorem b2i_0 {b : Bool} : b2i b = 0 ↔ b = false := by cases b <;> simp [b2i]
theorem b2i_n {b : Bool} : ¬ b2i b = 0 ↔ b = true := by cases b <;> simp [b2i]
def chT (ch ch2 : Nat → Int32) : Prop := ∀ h v, h < 8 → v < 32 → ch2 (32 * h + v) = b2i (bt (ch h) v)
theorem ffail_any (own cl ch : Nat → Int32) (t h : Nat) : ffail own cl ch t h = (anyB (fun v => bt (ch h) v) 32 && !anyB (fun v => bt (ch h) v && bt (hasC own cl t h) v) 32) := by
  unfold ffail
  have e1 : decide (ch h = 0) = !anyB (fun v => bt (ch h) v) 32 := by
    rw [Bool.eq_iff_iff, decide_eq_true_eq, bt_zero, Bool.not_eq_true', Bool.eq_false_iff, ne_eq, anyB_iff]
    constructor
    · rintro a ⟨i, hi, b⟩; rw [a i hi] at b; cases b
    · intro a i hi
      cases b : bt (ch h) i with
      | false => rfl
      | true => exact absurd ⟨i, hi, b⟩ a
  have e2 : decide (hasC own cl t h &&& ch h = 0) = !anyB (fun v => bt (ch h) v && bt (hasC own cl t h) v) 32 := by
    rw [Bool.eq_iff_iff, decide_eq_true_eq, bt_zero, Bool.not_eq_true', Bool.eq_false_iff, ne_eq, anyB_iff]
    constructor
    · rintro a ⟨i, hi, b⟩
      have := a i hi
      rw [b_and, Bool.and_comm] at this
      rw [this] at b; cases b
    · intro a i hi
      rw [b_and, Bool.and_comm]
      cases b : (bt (ch h) i && bt (hasC own cl t h) i) with
      | false => rfl
      | true => exact absurd ⟨i, hi, b⟩ a
  rw [e1, e2, Bool.not_not]
theorem X53_fits {post : Int32 → Prop} {own cl ch ch2 has : Nat → Int32} {t h : Nat} (ht : t < 40) (hh : h < 8) (hC : chT ch ch2) (hH : ftH own cl has) (hp : post (b2i (!ffail own cl ch t h))) : wpX53_fits post ch2 has (nI t) (nI h) := by
  unfold wpX53_fits
  have z01 : ∀ b : Bool, (0 : Int32) = b2i false ∧ (1 : Int32) = b2i true := fun _ => ⟨rfl, rfl⟩
  refine nloop (fun n (s : Int32 × Int32 × Int32) => wX53_fits_8 _ (nI t) (nI h) ch2 has n s.1 s.2.1 s.2.2) (fun k => (b2i (anyB (fun v => bt (ch h) v) k), b2i (anyB (fun v => bt (ch h) v && bt (hasC own cl t h) v) k), nI k)) 32 (Nat.zero_le 32) (fun n k _ hk ih => ?_) (fun n => ?_)
  · show wX53_fits_8 _ (nI t) (nI h) ch2 has (n + 1) _ _ (nI k)
    rw [wX53_fits_8]
    dsimp only at ih ⊢
    have hvi : vp_in (nI (32 * h + k)) 256 := vp_in_nI (by omega) (by decide)
    have hvj : vp_in (nI (256 * t + 32 * h + k)) 10240 := vp_in_nI (by omega) (by decide)
    have hcv := hC h k hh hk
    have hhv := hH t h k ht hh hk
    have j39 : ∀ K y, (∀ x5, x5 = nI k + 1 → K y (b2i (anyB (fun v => bt (ch h) v && bt (hasC own cl t h) v) (k + 1))) x5) → wX53_fits_39 K (nI t) (nI h) (b2i (anyB (fun v => bt (ch h) v && bt (hasC own cl t h) v) k)) (nI k) y ch2 has := by
      intro K y hK
      unfold wX53_fits_39
      rw [i32, nI_clamp (show 32 * h + k < 2 ^ 31 by omega), hcv]
      simp only [b2i_0, Bool.not_eq_false]
      refine ⟨fun a => ⟨hvi, fun b x e => ?_, fun b => ?_⟩, fun a x e => ?_⟩
      · have := hK x e
        simp only [anyB, a, b, Bool.false_and, Bool.or_false] at this
        exact this
      · unfold wpX53_place
        rw [i256]
        dsimp only
        rw [nI_clamp (show 256 * t + 32 * h + k < 2 ^ 31 by omega), hhv]
        refine ⟨hvj, fun c x e => ?_, fun c x e => ?_⟩
        · have c : bt (hasC own cl t h) k = false := by
            cases z : bt (hasC own cl t h) k with
            | false => rfl
            | true => rw [z] at c; simp at c
          have := hK x e
          simp only [anyB, a, b, c, Bool.and_false, Bool.or_false] at this
          exact this
        · have c : bt (hasC own cl t h) k = true := by
            cases z : bt (hasC own cl t h) k with
            | true => rfl
            | false => rw [z] at c; simp at c
          have := hK x e
          simp only [anyB, a, b, c, Bool.and_true, Bool.or_true] at this
          exact this
      · have := hK x e
        simp only [anyB, a, Bool.true_or] at this
        exact this
    rw [i32, nI_clamp (show 32 * h + k < 2 ^ 31 by omega), hcv]
    simp only [b2i_0, Bool.not_eq_false]
    refine ⟨fun d => absurd d (nI_ge hk (by decide)), fun _ => ⟨fun a => ⟨hvi, fun b => j39 _ _ (fun x e => ?_), fun b => j39 _ _ (fun x e => ?_)⟩, fun a => j39 _ _ (fun x e => ?_)⟩⟩
    · rw [e, nI_1]
      rw [show anyB (fun v => bt (ch h) v) (k + 1) = false by simp only [anyB, a, b, Bool.or_false]] at ih
      exact ih
    · rw [e, nI_1]
      rw [show anyB (fun v => bt (ch h) v) (k + 1) = true by simp only [anyB, b, Bool.or_true]] at ih
      exact ih
    · rw [e, nI_1]
      rw [show anyB (fun v => bt (ch h) v) (k + 1) = true by simp only [anyB, a, Bool.true_or]] at ih
      exact ih
  · show wX53_fits_8 _ (nI t) (nI h) ch2 has (n + 1) _ _ (nI 32)
    rw [wX53_fits_8]
    rw [ffail_any] at hp
    refine ⟨fun _ => ?_, fun d => absurd (Int32.le_refl _) d⟩
    simp only [b2i_0, Bool.not_eq_false]
    refine ⟨fun a => ⟨fun b => ?_, fun b => ?_⟩, fun a => ?_⟩
    · rw [a, b] at hp; exact hp
    · rw [a, b] at hp; exact hp
    · rw [a] at hp; simp at hp; exact hp
/-- the last place that holds -/
def lfp (p : Nat → Bool) : Nat → Int32
  | 0 => -1
  | k + 1 => if p k then nI k else lfp p k
theorem lfp_lt (p : Nat → Bool) : ∀ n h, n < 2 ^ 31 → h < 2 ^ 31 → lfp p n = nI h → h < n
  | 0, h, _, hh, e => absurd e.symm (nI_m1 hh)
  | n + 1, h, hn, hh, e => by
    unfold lfp at e
    split at e
    · have := (nI_eq (a := n) (b := h) (by omega) hh).mp e; omega
    · have := lfp_lt p n h (by omega) hh e; omega
theorem lfp_one {p : Nat → Bool} : ∀ {n : Nat}, n < 2 ^ 31 → cnt p n = 1 → ∀ h, h < n → (lfp p n = nI h ↔ p h = true)
  | 0, _, h, _, _ => by simp [cnt] at h
  | n + 1, hn, hc, h, hh => by
    unfold cnt at hc
    unfold lfp
    cases hp : p n with
    | true =>
      rw [hp] at hc
      have h0 : cnt p n = 0 := by simp at hc; exact hc
      simp only [if_true]
      by_cases e : h = n
      · subst e; simp [hp]
      · have := cnt_zero.mp h0 h (by omega)
        rw [this]
        constructor
        · intro q; exact absurd ((nI_eq (by omega) (by omega)).mp q).symm e
        · intro q; cases q
    | false =>
      rw [hp] at hc
      have h0 : cnt p n = 1 := by simp at hc; exact hc
      simp only [Bool.false_eq_true, if_false]
      by_cases e : h = n
      · subst e
        rw [hp]
        constructor
        · intro q; have := lfp_lt p h h (by omega) (by omega) q; omega
        · intro q; cases q
      · exact lfp_one (by omega) h0 h (by omega)
theorem X53_r122 {K : Int32 → Int32 → Prop} {own cl ch ch2 has : Nat → Int32} {t : Nat} (ht : t < 40) (hC : chT ch ch2) (hH : ftH own cl has) (hp : K (nI (nfail own cl ch t)) (lfp (fun h => ffail own cl ch t h) 8)) : ∃ fu, wX53_reckon_122 K (nI t) ch2 has fu 0 (-1) 0 := by
  refine nloop (fun n (s : Int32 × Int32 × Int32) => wX53_reckon_122 K (nI t) ch2 has n s.1 s.2.1 s.2.2) (fun k => (nI (cnt (fun h => ffail own cl ch t h) k), lfp (fun h => ffail own cl ch t h) k, nI k)) 8 (Nat.zero_le 8) (fun n k _ hk ih => ?_) (fun n => ?_)
  · show wX53_reckon_122 K (nI t) ch2 has (n + 1) _ _ (nI k)
    rw [wX53_reckon_122]
    dsimp only at ih ⊢
    refine ⟨fun d => absurd d (nI_ge hk (by decide)), fun _ => X53_fits ht hk hC hH ?_⟩
    simp only [b2i_0, Bool.not_eq_false]
    unfold cnt lfp at ih
    refine ⟨fun a x ex y ey => ?_, fun a y ey => ?_⟩
    · have a : ffail own cl ch t k = true := by simpa using a
      simp only [a, if_true] at ih
      rw [ex, ey, nI_1, nI_1]; exact ih
    · have a : ffail own cl ch t k = false := by simpa using a
      simp only [a, Bool.false_eq_true, if_false, Nat.add_zero] at ih
      rw [ey, nI_1]; exact ih
  · show wX53_reckon_122 K (nI t) ch2 has (n + 1) _ _ (nI 8)
    rw [wX53_reckon_122]
    exact ⟨fun _ => hp, fun d => absurd (Int32.le_refl _) d⟩
theorem X53_r169 {K : (Nat → Int32) → Prop} {own cl ch f : Nat → Int32} {t : Nat} (ht : t < 40) (hp : K (fun j => if decide (j / 8 = t) then b2i (fbut own cl ch t (j % 8)) else f j)) : ∃ fu, wX53_reckon_169 K (nI t) (nI (nfail own cl ch t)) (lfp (fun h => ffail own cl ch t h) 8) fu 0 f := by
  have hle := nfail_le own cl ch t
  have q : ∃ fu, wX53_reckon_169 K (nI t) (nI (nfail own cl ch t)) (lfp (fun h => ffail own cl ch t h) 8) fu (nI 0) (fun j => if decide (j / 8 = t) && decide (j % 8 < 0) then b2i (fbut own cl ch t (j % 8)) else f j) := by
    refine nloop (fun n (s : Int32 × (Nat → Int32)) => wX53_reckon_169 K (nI t) (nI (nfail own cl ch t)) (lfp (fun h => ffail own cl ch t h) 8) n s.1 s.2) (fun k => (nI k, fun j => if decide (j / 8 = t) && decide (j % 8 < k) then b2i (fbut own cl ch t (j % 8)) else f j)) 8 (Nat.zero_le 8) (fun n k _ hk ih => ?_) (fun n => ?_)
    · show wX53_reckon_169 K (nI t) (nI (nfail own cl ch t)) (lfp (fun h => ffail own cl ch t h) 8) (n + 1) (nI k) _
      rw [wX53_reckon_169]
      dsimp only at ih ⊢
      rw [i8, nI_clamp (show 8 * t + k < 2 ^ 31 by omega), nar1, nar0]
      have hvi : vp_in (nI (8 * t + k)) 320 := vp_in_nI (by omega) (by decide)
      have eu : ∀ x, x = b2i (fbut own cl ch t k) → upd (fun j => if decide (j / 8 = t) && decide (j % 8 < k) then b2i (fbut own cl ch t (j % 8)) else f j) (8 * t + k) x = (fun j => if decide (j / 8 = t) && decide (j % 8 < k + 1) then b2i (fbut own cl ch t (j % 8)) else f j) := by
        intro x ex
        funext j
        by_cases hj : j = 8 * t + k
        · subst hj
          rw [pk_us, show (8 * t + k) / 8 = t by omega, show (8 * t + k) % 8 = k by omega, ex]; simp
        · rw [pk_un hj]
          by_cases h1 : j / 8 = t
          · have : decide (j % 8 < k + 1) = decide (j % 8 < k) := by simp; omega
            rw [this]
          · simp [h1]
      have go : ∀ x, x = b2i (fbut own cl ch t k) → ∀ g, g = upd (fun j => if decide (j / 8 = t) && decide (j % 8 < k) then b2i (fbut own cl ch t (j % 8)) else f j) (8 * t + k) x → ∀ y, y = nI k + 1 → wX53_reckon_169 K (nI t) (nI (nfail own cl ch t)) (lfp (fun h => ffail own cl ch t h) 8) n y g := by
        intro x ex g eg y ey
        rw [eg, eu x ex, ey, nI_1]; exact ih
      refine ⟨fun d => absurd d (nI_ge hk (by decide)), fun _ => ⟨fun a => ⟨hvi, go 1 ?_⟩, fun a => ⟨fun b => ⟨fun c => ⟨hvi, go 1 ?_⟩, fun c => ⟨hvi, go 0 ?_⟩⟩, fun b => ⟨hvi, go 0 ?_⟩⟩⟩⟩
      · have a := (nI_eq (a := nfail own cl ch t) (b := 0) (by omega) (by omega)).mp a
        have : ffail own cl ch t k = false := cnt_zero.mp a k hk
        simp [fbut, a, this, b2i]
      · have b := (nI_eq (a := nfail own cl ch t) (b := 1) (by omega) (by omega)).mp b
        have : ffail own cl ch t k = true := (lfp_one (by decide) b k hk).mp c
        simp [fbut, b, this, b2i]
      · have b := (nI_eq (a := nfail own cl ch t) (b := 1) (by omega) (by omega)).mp b
        have : ffail own cl ch t k = false := by
          cases z : ffail own cl ch t k with
          | false => rfl
          | true => exact absurd ((lfp_one (p := fun h => ffail own cl ch t h) (by decide) b k hk).mpr z) c
        simp [fbut, b, this, b2i]
      · have a : ¬ nfail own cl ch t = 0 := fun z => a (by rw [z]; rfl)
        have b : ¬ nfail own cl ch t = 1 := fun z => b (by rw [z]; rfl)
        have : fbut own cl ch t k = false := by unfold fbut; split <;> simp <;> omega
        rw [this]; rfl
    · show wX53_reckon_169 K (nI t) (nI (nfail own cl ch t)) (lfp (fun h => ffail own cl ch t h) 8) (n + 1) (nI 8) _
      rw [wX53_reckon_169]
      have e : (fun j => if decide (j / 8 = t) && decide (j % 8 < 8) then b2i (fbut own cl ch t (j % 8)) else f j) = (fun j => if decide (j / 8 = t) then b2i (fbut own cl ch t (j % 8)) else f j) := by
        funext j
        rw [show decide (j % 8 < 8) = true by simp; omega, Bool.and_true]
      dsimp only
      rw [e]
      exact ⟨fun _ => hp, fun d => absurd (Int32.le_refl _) d⟩
  have e : (fun j => if decide (j / 8 = t) && decide (j % 8 < 0) then b2i (fbut own cl ch t (j % 8)) else f j) = f := by funext j; simp
  rw [e] at q
  exact q
/-- but and kept as own, cl, ch say -/
def ftB (own cl ch but kept : Nat → Int32) : Prop := (∀ t h, t < 40 → h < 8 → but (8 * t + h) = b2i (fbut own cl ch t h)) ∧ ∀ t, t < 40 → kept t = b2i (decide (nfail own cl ch t = 0))
theorem X53_r109 {K : (Nat → Int32) → (Nat → Int32) → Prop} {own cl ch ch2 has b0 k0 : Nat → Int32} (hC : chT ch ch2) (hH : ftH own cl has) (hp : ∀ b k, ftB own cl ch b k → K b k) : ∃ fu, wX53_reckon_109 K ch2 has fu 0 b0 k0 := by
  have key : ∀ d m b k, m + d = 40 → ((∀ t h, t < m → h < 8 → b (8 * t + h) = b2i (fbut own cl ch t h)) ∧ ∀ t, t < m → k t = b2i (decide (nfail own cl ch t = 0))) → wX53_reckon_109 K ch2 has (d + 1) (nI m) b k := by
    intro d
    induction d with
    | zero =>
      intro m b k hm hI
      have : m = 40 := by omega
      subst this
      rw [wX53_reckon_109]
      exact ⟨fun _ => hp b k hI, fun q => absurd (Int32.le_refl _) q⟩
    | succ d ih =>
      intro m b k hm hI
      have hm40 : m < 40 := by omega
      have hle := nfail_le own cl ch m
      rw [wX53_reckon_109]
      dsimp only
      rw [nI_clamp (show m < 2 ^ 31 by omega), nar1, nar0]
      have go : ∀ x, x = b2i (decide (nfail own cl ch m = 0)) → ∀ k', k' = upd k m x → ∀ y, y = nI m + 1 → wX53_reckon_109 K ch2 has (d + 1) y (fun j => if decide (j / 8 = m) then b2i (fbut own cl ch m (j % 8)) else b j) k' := by
        intro x ex k' ek y ey
        rw [ey, nI_1]
        refine ih (m + 1) _ _ (by omega) ⟨fun t h ht hh => ?_, fun t ht => ?_⟩
        · by_cases e : t = m
          · subst e
            rw [show (8 * t + h) / 8 = t by omega, show (8 * t + h) % 8 = h by omega]; simp
          · rw [show (8 * t + h) / 8 = t by omega]
            simp only [e, decide_false, Bool.false_eq_true, if_false]
            exact hI.1 t h (by omega) hh
        · rw [ek]
          by_cases e : t = m
          · subst e; rw [pk_us]; exact ex
          · rw [pk_un e]; exact hI.2 t (by omega)
      have hvi : vp_in (nI m) 40 := vp_in_nI hm40 (by decide)
      refine ⟨fun q => absurd q (nI_ge hm40 (by decide)), fun _ => X53_r122 hm40 hC hH ⟨fun a => ⟨hvi, fun k' ek => X53_r169 hm40 (fun y ey => go 1 ?_ k' ek y ey)⟩, fun a => ⟨hvi, fun k' ek => X53_r169 hm40 (fun y ey => go 0 ?_ k' ek y ey)⟩⟩⟩
      · have a := (nI_eq (a := nfail own cl ch m) (b := 0) (by omega) (by omega)).mp a
        simp [a, b2i]
      · have a : ¬ nfail own cl ch m = 0 := fun z => a (by rw [z]; rfl)
        simp [a, b2i]
  exact ⟨41, key 40 0 b0 k0 (by omega) ⟨fun t h ht => by omega, fun t ht => by omega⟩⟩
/-- what is reckoned is right when it is fresh -/
def ftF (own cl ch : Nat → Int32) (fr : Int32) (has but kept : Nat → Int32) : Prop := fr = 0 ∨ (fr = 1 ∧ ftH own cl has ∧ ftB own cl ch but kept)
theorem X53_reckon {post : Int32 → (Nat → Int32) → (Nat → Int32) → (Nat → Int32) → Prop} {own th hd vl up cl ch ch2 has but kept : Nat → Int32} {n : Nat} {fr : Int32} (H : ftR own th hd vl n) (hO : upOK up) (hE : clE up cl) (hC : chT ch ch2) (hF : ftF own cl ch fr has but kept)
    (hp : ∀ has' but' kept', ftH own cl has' → ftB own cl ch but' kept' → post 1 has' but' kept') : wpX53_reckon post (nI n) th hd vl up ch2 fr has but kept := by
  unfold wpX53_reckon
  refine ⟨fun _ => X53_r15 (fun f hz => X53_r37 H hO hE hz (fun g hg => X53_r109 hC hg (fun b k hb => hp g b k hg hb))), fun c => ?_⟩
  rcases hF with e | ⟨e, h1, h2⟩
  · exact absurd e c
  · rw [e]; exact hp has but kept h1 h2
