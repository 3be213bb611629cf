/-! FacetCounts (X31): weigh, weighAll -/
/-- counts with the places below m that c says grown by b -/
def upto (cn : Nat → Int32) (c : Nat → Bool) (b : Int32) (m : Nat) : Nat → Int32 := fun j => if decide (j < m) && c j then cn j + b else cn j
theorem upto_0 (cn : Nat → Int32) (c : Nat → Bool) (b : Int32) : upto cn c b 0 = cn := by funext j; simp [upto]
theorem upto_s (cn : Nat → Int32) (c : Nat → Bool) (b : Int32) (m : Nat) : upd (upto cn c b m) m (upto cn c b m m + (if c m then 1 else 0) * b) = upto cn c b (m + 1) := by
  funext j
  by_cases hj : j = m
  · subst hj
    rw [pk_us]
    cases h : c j with
    | true => simp only [upto, h]; simp
    | false => simp only [upto, h]; simp
  · rw [pk_un hj]
    unfold upto
    have : decide (j < m + 1) = decide (j < m) := by simp; omega
    rw [this]
theorem X31_w91 {K : (Nat → Int32) → Prop} {b bits : Int32} {h : Nat} {cn : Nat → Int32} {c : Nat → Bool} (hh : h < 8) (hb : ∀ v, v < 32 → bt bits v = c (32 * h + v)) (hp : K (upto cn c b (32 * h + 32))) : ∃ fu, wX31_weigh_91 K b (nI h) bits fu 0 (upto cn c b (32 * h)) := by
  refine nloop (fun n (s : Int32 × (Nat → Int32)) => wX31_weigh_91 K b (nI h) bits n s.1 s.2) (fun k => (nI k, upto cn c b (32 * h + k))) 32 (Nat.zero_le 32) (fun n k _ hk ih => ?_) (fun n => ?_)
  · show wX31_weigh_91 K b (nI h) bits (n + 1) (nI k) (upto cn c b (32 * h + k))
    rw [wX31_weigh_91]
    dsimp only
    rw [i32]
    refine ⟨fun d => absurd d (nI_ge hk (by decide)), fun _ => ⟨vp_in_nI (by omega) (by omega), fun v e => ⟨vp_in_nI (by omega) (by omega), fun f ef x5 e5 => ?_⟩⟩⟩
    rw [nI_clamp (by omega)] at e ef
    rw [bt_val hk, hb k hk] at e
    rw [ef, e, upto_s, e5, nI_1]
    exact ih
  · show wX31_weigh_91 K b (nI h) bits (n + 1) (nI 32) (upto cn c b (32 * h + 32))
    rw [wX31_weigh_91]
    exact ⟨fun _ => hp, fun d => absurd (Int32.le_refl _) d⟩
/-- a thing's part in all counts, by their places -/
def cbj (own cl ch : Nat → Int32) (t j : Nat) : Bool := cbt own cl ch t (j / 32) (j % 32)
theorem cbj_at (own cl ch : Nat → Int32) (t h v : Nat) (hv : v < 32) : cbj own cl ch t (32 * h + v) = cbt own cl ch t h v := by
  unfold cbj
  rw [show (32 * h + v) / 32 = h by omega, show (32 * h + v) % 32 = v by omega]
theorem X31_w61 {K : (Nat → Int32) → Prop} {b : Int32} {own cl ch fl cn : Nat → Int32} {t : Nat} (ht : t < 40) (hf : fl t = nI (nfail own cl ch t)) (hp : K (upto cn (cbj own cl ch t) b 256)) : ∃ fu, wX31_weigh_61 K (nI t) b own cl ch fl fu 0 cn := by
  have h0 := upto_0 cn (cbj own cl ch t) b
  rw [← h0]
  refine nloop (fun n (s : Int32 × (Nat → Int32)) => wX31_weigh_61 K (nI t) b own cl ch fl n s.1 s.2) (fun k => (nI k, upto cn (cbj own cl ch t) b (32 * k))) 8 (Nat.zero_le 8) (fun n k _ hk ih => ?_) (fun n => ?_)
  · show wX31_weigh_61 K (nI t) b own cl ch fl (n + 1) (nI k) (upto cn (cbj own cl ch t) b (32 * k))
    rw [wX31_weigh_61]
    refine ⟨fun d => absurd d (nI_ge hk (by decide)), fun _ => X31_isKeptBut ht hk hf ⟨fun d => ?_, fun d => ?_⟩⟩
    · have hb : fbut own cl ch t k = false := by
        cases e : fbut own cl ch t k with
        | false => rfl
        | true => rw [e] at d; simp at d
      refine X31_w91 hk (fun v hv => ?_) (fun x e => ?_)
      · rw [cbj_at _ _ _ _ _ _ hv]; simp [cbt, hb, b_0]
      · rw [e, nI_1]; exact ih
    · have hb : fbut own cl ch t k = true := by
        cases e : fbut own cl ch t k with
        | true => rfl
        | false => rw [e] at d; simp at d
      refine X31_has ht hk (X31_w91 hk (fun v hv => ?_) (fun x e => ?_))
      · rw [cbj_at _ _ _ _ _ _ hv]; simp [cbt, hb]
      · rw [e, nI_1]; exact ih
  · show wX31_weigh_61 K (nI t) b own cl ch fl (n + 1) (nI 8) (upto cn (cbj own cl ch t) b 256)
    rw [wX31_weigh_61]
    exact ⟨fun _ => hp, fun d => absurd (Int32.le_refl _) d⟩
theorem X31_w13 {K : (Nat → Int32) → Prop} {own cl ch fl : Nat → Int32} {t : Nat} (ht : t < 40) (hp : K (upd fl t (nI (nfail own cl ch t)))) : ∃ fu, wX31_weigh_13 K (nI t) own cl ch fu 0 (upd fl t 0) := by
  refine nloop (fun n (s : Int32 × (Nat → Int32)) => wX31_weigh_13 K (nI t) own cl ch n s.1 s.2) (fun k => (nI k, upd fl t (nI (cnt (fun h => ffail own cl ch t h) k)))) 8 (Nat.zero_le 8) (fun n k _ hk ih => ?_) (fun n => ?_)
  · show wX31_weigh_13 K (nI t) own cl ch (n + 1) (nI k) (upd fl t (nI (cnt (fun h => ffail own cl ch t h) k)))
    rw [wX31_weigh_13]
    dsimp only
    rw [nI_clamp (by omega), pk_us]
    have uu : ∀ x, upd (upd fl t (nI (cnt (fun h => ffail own cl ch t h) k))) t x = upd fl t x := by
      intro x; funext j
      by_cases hj : j = t
      · subst hj; rw [pk_us, pk_us]
      · rw [pk_un hj, pk_un hj, pk_un hj]
    refine ⟨fun d => absurd d (nI_ge hk (by decide)), fun _ => ⟨vp_in_nI ht (by decide), X31_failsAt ht hk ⟨fun d v e => ⟨vp_in_nI ht (by decide), fun f ef x ex => ?_⟩, fun d v e => ⟨vp_in_nI ht (by decide), fun f ef x ex => ?_⟩⟩⟩⟩
    · have hb : ffail own cl ch t k = false := by
        cases e : ffail own cl ch t k with
        | false => rfl
        | true => rw [e] at d; simp at d
      rw [ef, e, ex, uu, nI_1]
      have e1 : nI (cnt (fun h => ffail own cl ch t h) k) + 0 = nI (cnt (fun h => ffail own cl ch t h) (k + 1)) := by
        rw [show cnt (fun h => ffail own cl ch t h) (k + 1) = cnt (fun h => ffail own cl ch t h) k from by simp [cnt, hb]]; grind
      rw [e1]; exact ih
    · have hb : ffail own cl ch t k = true := by
        cases e : ffail own cl ch t k with
        | true => rfl
        | false => rw [e] at d; simp at d
      rw [ef, e, ex, uu, nI_1, nI_1]
      have e1 : cnt (fun h => ffail own cl ch t h) k + 1 = cnt (fun h => ffail own cl ch t h) (k + 1) := by simp [cnt, hb]
      rw [e1]; exact ih
  · show wX31_weigh_13 K (nI t) own cl ch (n + 1) (nI 8) (upd fl t (nI (nfail own cl ch t)))
    rw [wX31_weigh_13]
    exact ⟨fun _ => hp, fun d => absurd (Int32.le_refl _) d⟩
/-- with more than one head that fails a thing has no part in any count -/
theorem cbj_none {own cl ch : Nat → Int32} {t : Nat} (h : 1 < nfail own cl ch t) (j : Nat) : cbj own cl ch t j = false := by
  unfold cbj cbt
  have : fbut own cl ch t (j / 32) = false := by
    unfold fbut
    split <;> simp <;> omega
  rw [this]; rfl
theorem upto_none {cn : Nat → Int32} {c : Nat → Bool} {b : Int32} {m : Nat} (h : ∀ j, c j = false) : upto cn c b m = cn := by funext j; simp [upto, h]
theorem nI_le1 {n : Nat} (hn : n < 2 ^ 31) : nI n ≤ 1 ↔ n ≤ 1 := nI_leI hn (by decide)
/-- weigh: a thing's part goes -/
theorem X31_weighM {post : (Nat → Int32) → (Nat → Int32) → Prop} {own cl ch fl cn : Nat → Int32} {t : Nat} (ht : t < 40) (hf : fl t = nI (nfail own cl ch t)) (hp : post fl (upto cn (cbj own cl ch t) (-1) 256)) : wpX31_weigh post own cl ch fl cn (nI t) (-1) := by
  unfold wpX31_weigh
  have hle := nfail_le own cl ch t
  rw [nI_clamp (by omega)]
  refine ⟨fun _ => ⟨vp_in_nI ht (by decide), fun d => X31_w61 ht hf hp, fun d => ?_⟩, fun d => absurd (by decide) d⟩
  rw [hf, nI_le1 (by omega)] at d
  rw [upto_none (cbj_none (by omega))] at hp
  exact hp
/-- weigh: a thing's part comes -/
theorem X31_weighP {post : (Nat → Int32) → (Nat → Int32) → Prop} {own cl ch fl cn : Nat → Int32} {t : Nat} (ht : t < 40) (hp : post (upd fl t (nI (nfail own cl ch t))) (upto cn (cbj own cl ch t) 1 256)) : wpX31_weigh post own cl ch fl cn (nI t) 1 := by
  unfold wpX31_weigh
  have hle := nfail_le own cl ch t
  rw [nI_clamp (by omega)]
  refine ⟨fun d => absurd d (by decide), fun _ => ⟨vp_in_nI ht (by decide), fun f ef => ?_⟩⟩
  rw [ef]
  refine X31_w13 ht ⟨vp_in_nI ht (by decide), fun d => X31_w61 ht (pk_us) hp, fun d => ?_⟩
  rw [pk_us, nI_le1 (by omega)] at d
  rw [upto_none (cbj_none (by omega))] at hp
  exact hp
