/-! FacetCounts (X31): rows come and go; all counts anew -/
def rI (x : Int32) (n : Nat) : Bool := decide (0 ≤ x) && decide (x < nI n)
theorem rI_t {x : Int32} {n : Nat} (hn : n < 2 ^ 31) (h : rI x n = true) : ∃ v, v < n ∧ x = nI v := by
  simp only [rI, Bool.and_eq_true, decide_eq_true_eq] at h
  exact nIx rfl hn h.1 h.2
theorem rI_n {v n : Nat} (h : v < n) (hn : n < 2 ^ 31) : rI (nI v) n = true := by
  simp only [rI, Bool.and_eq_true, decide_eq_true_eq]
  exact nIb h hn
theorem rI_f {x : Int32} {n : Nat} (hn : n < 2 ^ 31) (h : ¬ ∃ v, v < n ∧ x = nI v) : rI x n = false := by
  cases e : rI x n with
  | false => rfl
  | true => exact absurd (rI_t hn e) h
/-- what is known of a thing's failures and of all counts -/
def fcI (own cl ch fl cn : Nat → Int32) : Prop := (∀ t, t < 40 → fl t = nI (nfail own cl ch t)) ∧ ∀ j, j < 256 → cn j = nI (cnt (fun t => cbj own cl ch t j) 40)
theorem hasC_congr {own own' cl : Nat → Int32} {t h : Nat} (e : ∀ h, h < 8 → own' (8 * t + h) = own (8 * t + h)) (hh : h < 8) : hasC own' cl t h = hasC own cl t h := by
  unfold hasC
  rw [show own' (8 * t) = own (8 * t) from e 0 (by omega), e h hh]
theorem ffail_congr {own own' cl ch : Nat → Int32} {t h : Nat} (e : ∀ h, h < 8 → own' (8 * t + h) = own (8 * t + h)) (hh : h < 8) : ffail own' cl ch t h = ffail own cl ch t h := by
  unfold ffail; rw [hasC_congr e hh]
theorem nfail_congr {own own' cl ch : Nat → Int32} {t : Nat} (e : ∀ h, h < 8 → own' (8 * t + h) = own (8 * t + h)) : nfail own' cl ch t = nfail own cl ch t := cnt_congr (fun _ hh => ffail_congr e hh)
theorem cbj_congr {own own' cl ch : Nat → Int32} {t j : Nat} (hj : j < 256) (e : ∀ h, h < 8 → own' (8 * t + h) = own (8 * t + h)) : cbj own' cl ch t j = cbj own cl ch t j := by
  unfold cbj cbt fbut
  rw [nfail_congr e, ffail_congr e (by omega), hasC_congr e (by omega)]
theorem recnt {p q : Nat → Bool} {t : Nat} {c : Int32} (ht : t < 40) (h : c = nI (cnt p 40)) (e : ∀ i, i < 40 → i ≠ t → p i = q i) : (if q t then (if p t then c + (-1) else c) + 1 else if p t then c + (-1) else c) = nI (cnt q 40) := by
  have hu := cnt_upd ht e
  subst h
  cases hp : p t <;> cases hq : q t <;> simp [hp, hq] at hu ⊢
  · rw [hu]
  · rw [nI_1, ← hu]
  · rw [← hu, ← nI_1]; grind
  · rw [← hu]; grind
/-- one thing's rows change between its weighings -/
theorem fcI_step {own own' cl ch fl cn : Nat → Int32} {t : Nat} (ht : t < 40) (hI : fcI own cl ch fl cn) (e : ∀ i, i < 40 → i ≠ t → ∀ h, h < 8 → own' (8 * i + h) = own (8 * i + h)) :
    fcI own' cl ch (upd fl t (nI (nfail own' cl ch t))) (upto (upto cn (cbj own cl ch t) (-1) 256) (cbj own' cl ch t) 1 256) := by
  refine ⟨fun i hi => ?_, fun j hj => ?_⟩
  · by_cases h : i = t
    · subst h; rw [pk_us]
    · rw [pk_un h, hI.1 i hi, nfail_congr (e i hi h)]
  · have := recnt (p := fun t => cbj own cl ch t j) (q := fun t => cbj own' cl ch t j) ht (hI.2 j hj) (fun i hi h => (cbj_congr hj (e i hi h)).symm)
    rw [← this]
    simp only [upto, hj, decide_true, Bool.true_and]
theorem X31_isRow {post : Int32 → Prop} {x1 x2 x3 : Int32} (hp : post (if rI x1 40 && rI x2 8 && rI x3 32 then 1 else 0)) : wpX31_isRow post x1 x2 x3 := by
  unfold wpX31_isRow
  refine X31_isInE 40 (by decide) (fun v hv e1 => ⟨fun c => absurd c (by decide), fun _ => ?_⟩) (fun h => ⟨fun _ => ?_, fun c => absurd rfl c⟩)
  · refine X31_isInE 8 (by decide) (fun v2 hv2 e2 => ⟨fun c => absurd c (by decide), fun _ => ?_⟩) (fun h => ⟨fun _ => ?_, fun c => absurd rfl c⟩)
    · refine X31_isInE 32 (by decide) (fun v3 hv3 e3 => ⟨fun c => absurd c (by decide), fun _ => ?_⟩) (fun h => ⟨fun _ => ?_, fun c => absurd rfl c⟩)
      · simpa [e1, e2, e3, rI_n hv (by decide), rI_n hv2 (by decide), rI_n hv3 (by decide)] using hp
      · simpa [rI_f (by decide) h] using hp
    · simpa [rI_f (by decide) h] using hp
  · simpa [rI_f (by decide) h] using hp
def fcRow (own : Nat → Int32) (rows x1 x2 x3 : Int32) : Int32 × (Nat → Int32) × Int32 :=
  if rI x1 40 && rI x2 8 && rI x3 32 then
    let i := 8 * x1.toNatClampNeg + x2.toNatClampNeg
    if bt (own i) x3.toNatClampNeg then (0, own, rows) else if rows = 300 then (-2, own, rows) else (1, upd own i (own i ||| ((1 : Int32) <<< (x3 &&& 31))), rows + 1)
  else (-1, own, rows)
def fcDrop (own : Nat → Int32) (rows x1 x2 x3 : Int32) : Int32 × (Nat → Int32) × Int32 :=
  if rI x1 40 && rI x2 8 && rI x3 32 then
    let i := 8 * x1.toNatClampNeg + x2.toNatClampNeg
    if bt (own i) x3.toNatClampNeg then (1, upd own i (own i &&& (((1 : Int32) <<< (x3 &&& 31)) ^^^ (-1))), rows - 1) else (0, own, rows)
  else (-1, own, rows)
theorem row_else {t h : Nat} (hh : h < 8) {own : Nat → Int32} {x : Int32} : ∀ i, i < 40 → i ≠ t → ∀ k, k < 8 → upd own (8 * t + h) x (8 * i + k) = own (8 * i + k) := fun i _ hne k hk => pk_un (by omega)
theorem X31_row {post : Int32 → (Nat → Int32) → Int32 → (Nat → Int32) → (Nat → Int32) → Prop} {own cl ch fl cn : Nat → Int32} {rows x1 x2 x3 : Int32} (hI : fcI own cl ch fl cn)
    (hp : ∀ fl' cn', fcI (fcRow own rows x1 x2 x3).2.1 cl ch fl' cn' → post (fcRow own rows x1 x2 x3).1 (fcRow own rows x1 x2 x3).2.1 (fcRow own rows x1 x2 x3).2.2 fl' cn') : wpX31_row post own rows cl ch fl cn x1 x2 x3 := by
  unfold wpX31_row
  refine X31_isRow ⟨fun c => ?_, fun c x4 e4 => ?_⟩
  · have hb : (rI x1 40 && rI x2 8 && rI x3 32) = false := by
      cases e : (rI x1 40 && rI x2 8 && rI x3 32) with
      | false => rfl
      | true => rw [e] at c; simp at c
    simp only [fcRow, hb] at hp
    exact hp fl cn hI
  · have hb : (rI x1 40 && rI x2 8 && rI x3 32) = true := by
      cases e : (rI x1 40 && rI x2 8 && rI x3 32) with
      | true => rfl
      | false => rw [e] at c; simp at c
    simp only [fcRow, hb, if_true] at hp
    simp only [Bool.and_eq_true] at hb
    obtain ⟨t, ht, rfl⟩ := rI_t (by decide) hb.1.1
    obtain ⟨h, hh, rfl⟩ := rI_t (by decide) hb.1.2
    obtain ⟨v, hv, rfl⟩ := rI_t (by decide) hb.2
    simp only [nI_clamp (show t < 2 ^ 31 by omega), nI_clamp (show h < 2 ^ 31 by omega), nI_clamp (show v < 2 ^ 31 by omega)] at hp
    rw [i8] at e4
    subst e4
    rw [nI_clamp (by omega)]
    refine ⟨vp_in_nI (by omega) (by omega), fun d => ?_, fun d => ⟨fun f => ?_, fun f => ?_⟩⟩
    · rw [bt_test hv] at d
      simp only [d, if_true] at hp
      exact hp fl cn hI
    · rw [bt_test hv] at d
      subst f
      simp only [d, if_true, Bool.false_eq_true, if_false] at hp
      exact hp fl cn hI
    · rw [bt_test hv] at d
      simp only [d, f] at hp
      refine X31_weighM ht (hI.1 t ht) ⟨vp_in_nI (by omega) (by omega), fun w ew => ⟨vp_in_nI (by omega) (by omega), fun o eo r er => ?_⟩⟩
      subst ew; subst eo; subst er
      exact X31_weighP ht (hp _ _ (fcI_step ht hI (row_else hh)))
theorem X31_drop {post : Int32 → (Nat → Int32) → Int32 → (Nat → Int32) → (Nat → Int32) → Prop} {own cl ch fl cn : Nat → Int32} {rows x1 x2 x3 : Int32} (hI : fcI own cl ch fl cn)
    (hp : ∀ fl' cn', fcI (fcDrop own rows x1 x2 x3).2.1 cl ch fl' cn' → post (fcDrop own rows x1 x2 x3).1 (fcDrop own rows x1 x2 x3).2.1 (fcDrop own rows x1 x2 x3).2.2 fl' cn') : wpX31_drop post own rows cl ch fl cn x1 x2 x3 := by
  unfold wpX31_drop
  refine X31_isRow ⟨fun c => ?_, fun c x4 e4 => ?_⟩
  · have hb : (rI x1 40 && rI x2 8 && rI x3 32) = false := by
      cases e : (rI x1 40 && rI x2 8 && rI x3 32) with
      | false => rfl
      | true => rw [e] at c; simp at c
    simp only [fcDrop, hb] at hp
    exact hp fl cn hI
  · have hb : (rI x1 40 && rI x2 8 && rI x3 32) = true := by
      cases e : (rI x1 40 && rI x2 8 && rI x3 32) with
      | true => rfl
      | false => rw [e] at c; simp at c
    simp only [fcDrop, hb, if_true] at hp
    simp only [Bool.and_eq_true] at hb
    obtain ⟨t, ht, rfl⟩ := rI_t (by decide) hb.1.1
    obtain ⟨h, hh, rfl⟩ := rI_t (by decide) hb.1.2
    obtain ⟨v, hv, rfl⟩ := rI_t (by decide) hb.2
    simp only [nI_clamp (show t < 2 ^ 31 by omega), nI_clamp (show h < 2 ^ 31 by omega), nI_clamp (show v < 2 ^ 31 by omega)] at hp
    rw [i8] at e4
    subst e4
    rw [nI_clamp (by omega)]
    refine ⟨vp_in_nI (by omega) (by omega), fun d => ?_, fun d => ?_⟩
    · rw [bt_test0 hv] at d
      simp only [d] at hp
      exact hp fl cn hI
    · rw [bt_test0 hv] at d
      have d : bt (own (8 * t + h)) v = true := by simpa using d
      simp only [d, if_true] at hp
      refine X31_weighM ht (hI.1 t ht) ⟨vp_in_nI (by omega) (by omega), fun w ew => ⟨vp_in_nI (by omega) (by omega), fun o eo r er => ?_⟩⟩
      subst ew; subst eo; subst er
      exact X31_weighP ht (hp _ _ (fcI_step ht hI (row_else hh)))
/-- all parts go: the counts are 0 -/
theorem X31_weighAllM {post : (Nat → Int32) → (Nat → Int32) → Prop} {own cl ch fl cn : Nat → Int32} (hI : fcI own cl ch fl cn) (hp : ∀ cn', (∀ j, j < 256 → cn' j = 0) → post fl cn') : wpX31_weighAll post own cl ch fl cn (-1) := by
  unfold wpX31_weighAll
  have q : ∃ fu, wX31_weighAll_2 (fun a b => post a b) (-1) own cl ch fu (nI 0) fl (fun j => if j < 256 then cn j - nI (cnt (fun t => cbj own cl ch t j) 0) else cn j) := by
    refine nloop (fun n (s : Int32 × (Nat → Int32) × (Nat → Int32)) => wX31_weighAll_2 (fun a b => post a b) (-1) own cl ch n s.1 s.2.1 s.2.2) (fun k => (nI k, fl, fun j => if j < 256 then cn j - nI (cnt (fun t => cbj own cl ch t j) k) else cn j)) 40 (Nat.zero_le 40) (fun n k _ hk ih => ?_) (fun n => ?_)
    · show wX31_weighAll_2 _ (-1) own cl ch (n + 1) (nI k) fl _
      rw [wX31_weighAll_2]
      refine ⟨fun d => absurd d (nI_ge hk (by decide)), fun _ => X31_weighM hk (hI.1 k hk) (fun x ex => ?_)⟩
      rw [ex, nI_1]
      have e : upto (fun j => if j < 256 then cn j - nI (cnt (fun t => cbj own cl ch t j) k) else cn j) (cbj own cl ch k) (-1) 256 = (fun j => if j < 256 then cn j - nI (cnt (fun t => cbj own cl ch t j) (k + 1)) else cn j) := by
        funext j
        unfold upto
        by_cases hj : j < 256
        · simp only [hj, decide_true, Bool.true_and, if_true, cnt]
          by_cases hc : cbj own cl ch k j = true
          · simp only [hc, if_true]; rw [← nI_1]; grind
          · simp only [hc, if_false, Nat.add_zero]; rfl
        · simp [hj]
      rw [e]
      exact ih
    · show wX31_weighAll_2 _ (-1) own cl ch (n + 1) (nI 40) fl _
      rw [wX31_weighAll_2]
      refine ⟨fun _ => hp _ (fun j hj => ?_), fun d => absurd (Int32.le_refl _) d⟩
      simp only [hj, if_true]
      rw [hI.2 j hj]; grind
  have e : (fun j => if j < 256 then cn j - nI (cnt (fun t => cbj own cl ch t j) 0) else cn j) = cn := by
    funext j; simp only [cnt]; split
    · have : nI 0 = 0 := rfl
      rw [this]; grind
    · rfl
  rw [e] at q
  exact q
/-- all parts come -/
theorem X31_weighAllP {post : (Nat → Int32) → (Nat → Int32) → Prop} {own cl ch fl cn : Nat → Int32} (h0 : ∀ j, j < 256 → cn j = 0) (hp : ∀ fl' cn', fcI own cl ch fl' cn' → post fl' cn') : wpX31_weighAll post own cl ch fl cn 1 := by
  unfold wpX31_weighAll
  have q : ∃ fu, wX31_weighAll_2 (fun a b => post a b) 1 own cl ch fu (nI 0) (fun t => if t < 0 then nI (nfail own cl ch t) else fl t) (fun j => if j < 256 then nI (cnt (fun t => cbj own cl ch t j) 0) else cn j) := by
    refine nloop (fun n (s : Int32 × (Nat → Int32) × (Nat → Int32)) => wX31_weighAll_2 (fun a b => post a b) 1 own cl ch n s.1 s.2.1 s.2.2) (fun k => (nI k, (fun t => if t < k then nI (nfail own cl ch t) else fl t), fun j => if j < 256 then nI (cnt (fun t => cbj own cl ch t j) k) else cn j)) 40 (Nat.zero_le 40) (fun n k _ hk ih => ?_) (fun n => ?_)
    · show wX31_weighAll_2 _ 1 own cl ch (n + 1) (nI k) _ _
      rw [wX31_weighAll_2]
      refine ⟨fun d => absurd d (nI_ge hk (by decide)), fun _ => X31_weighP hk (fun x ex => ?_)⟩
      rw [ex, nI_1]
      have e : upto (fun j => if j < 256 then nI (cnt (fun t => cbj own cl ch t j) k) else cn j) (cbj own cl ch k) 1 256 = (fun j => if j < 256 then nI (cnt (fun t => cbj own cl ch t j) (k + 1)) else cn j) := by
        funext j
        unfold upto
        by_cases hj : j < 256
        · simp only [hj, decide_true, Bool.true_and, if_true, cnt]
          by_cases hc : cbj own cl ch k j = true
          · simp only [hc, if_true]; rw [nI_1]
          · simp only [hc, if_false, Nat.add_zero]; rfl
        · simp [hj]
      have e2 : upd (fun t => if t < k then nI (nfail own cl ch t) else fl t) k (nI (nfail own cl ch k)) = (fun t => if t < k + 1 then nI (nfail own cl ch t) else fl t) := by
        funext t
        by_cases ht : t = k
        · subst ht; rw [pk_us]; simp
        · rw [pk_un ht]
          have : (t < k + 1) = (t < k) := by simp; omega
          simp only [this]
      dsimp only
      rw [e, e2]
      exact ih
    · show wX31_weighAll_2 _ 1 own cl ch (n + 1) (nI 40) _ _
      rw [wX31_weighAll_2]
      refine ⟨fun _ => hp _ _ ⟨fun t ht => by simp [ht], fun j hj => by simp [hj]⟩, fun d => absurd (Int32.le_refl _) d⟩
  have e : (fun j => if j < 256 then nI (cnt (fun t => cbj own cl ch t j) 0) else cn j) = cn := by
    funext j; simp only [cnt]; split
    · rw [h0 j ‹_›]; rfl
    · rfl
  have e2 : (fun t => if t < 0 then nI (nfail own cl ch t) else fl t) = fl := by funext t; simp
  rw [e, e2] at q
  exact q
