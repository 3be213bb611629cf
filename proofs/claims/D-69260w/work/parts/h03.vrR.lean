/-! VirtualRewriteModel (X54): tables, mappings, the question -/
def vTh (c : Int → Int) (n t k v : Int) : Prop := ∃ r, 0 ≤ r ∧ r < n ∧ c (60 * t + 3 * r + k) = v
def vRp (c : Int → Int) (n t k : Int) : Prop := ∃ r q, 0 ≤ q ∧ q < r ∧ r < n ∧ c (60 * t + 3 * r + k) = c (60 * t + 3 * q + k)
theorem T54_isInB {A B : Prop} {v n : Int} (h1 : 0 ≤ v → v < n → B) (h0 : ¬ (0 ≤ v ∧ v < n) → A) : wpX54_isIn (fun r => (r = 0 → A) ∧ (¬ r = 0 → B)) v n := by
  unfold wpX54_isIn
  refine ⟨fun a => ⟨fun _ => h0 (by omega), fun q => absurd rfl q⟩, fun a => ⟨fun b => ⟨fun _ => h0 (by omega), fun q => absurd rfl q⟩, fun b => ⟨fun q => absurd q (by decide), fun _ => h1 (by omega) (by omega)⟩⟩⟩
theorem T54_isThereB {A B : Prop} {c sz : Int → Int} {t k v : Int} (ht : 0 ≤ t ∧ t < 4) (hk : 0 ≤ k ∧ k < 3) (hs : sz t ≤ 20) (h1 : vTh c (sz t) t k v → B) (h0 : ¬ vTh c (sz t) t k v → A) : wpX54_isThere (fun r => (r = 0 → A) ∧ (¬ r = 0 → B)) c sz t k v := by
  unfold wpX54_isThere
  refine zl1 _ (fun i => 0 ≤ i ∧ ∀ r, 0 ≤ r → r < i → c (60 * t + 3 * r + k) ≠ v) (max 0 (sz t)) ?_ ⟨by omega, by omega⟩ (by omega)
  intro n i ⟨hi, hI⟩ hN ih
  rw [wX54_isThere_3]
  refine ⟨ht, fun q => ⟨fun _ => h0 (fun ⟨r, a, b, e⟩ => hI r a (by omega) e), fun q => absurd rfl q⟩, fun q => ?_⟩
  unfold wpX54_cell
  refine ⟨by omega, fun e => ⟨fun q => absurd q (by decide), fun _ => h1 ⟨i, hi, by omega, e⟩⟩, fun e => ⟨by omega, fun _ e2 => ?_⟩⟩
  subst e2
  exact ih (by omega) ⟨by omega, fun r a b => by by_cases hr : r = i; (· subst hr; exact e); exact hI r a (by omega)⟩
theorem T54_repeatsB {A B : Prop} {c sz : Int → Int} {t k : Int} (ht : 0 ≤ t ∧ t < 4) (hk : 0 ≤ k ∧ k < 3) (hs : sz t ≤ 20) (h1 : vRp c (sz t) t k → B) (h0 : ¬ vRp c (sz t) t k → A) : wpX54_repeats (fun r => (r = 0 → A) ∧ (¬ r = 0 → B)) c sz t k := by
  unfold wpX54_repeats
  refine zl1 _ (fun i => 0 ≤ i ∧ ∀ r q, 0 ≤ q → q < r → r < i → c (60 * t + 3 * r + k) ≠ c (60 * t + 3 * q + k)) (max 0 (sz t)) ?_ ⟨by omega, by omega⟩ (by omega)
  intro n i ⟨hi, hI⟩ hN ih
  rw [wX54_repeats_2]
  refine ⟨ht, fun q => ⟨fun _ => h0 (fun ⟨r, q, a, b, d, e⟩ => hI r q a b (by omega) e), fun q => absurd rfl q⟩, fun q => ?_⟩
  refine zl1 _ (fun j => 0 ≤ j ∧ ∀ q, 0 ≤ q → q < j → c (60 * t + 3 * i + k) ≠ c (60 * t + 3 * q + k)) i ?_ ⟨by omega, by omega⟩ (by omega)
  intro n2 j ⟨hj, hJ⟩ hN2 ih2
  rw [wX54_repeats_15]
  refine ⟨fun q => ⟨by omega, fun _ e2 => ?_⟩, fun q => ?_⟩
  · subst e2
    refine ih (by omega) ⟨by omega, fun r w a b d => ?_⟩
    by_cases hr : r = i
    · subst hr; exact hJ w a (by omega)
    · exact hI r w a b (by omega)
  · unfold wpX54_cell
    refine ⟨by omega, by omega, fun e => ⟨fun q => absurd q (by decide), fun _ => h1 ⟨i, j, hj, by omega, by omega, e⟩⟩, fun e => ⟨by omega, fun _ e2 => ?_⟩⟩
    subst e2
    exact ih2 (by omega) ⟨by omega, fun q a b => by by_cases hr : q = j; (· subst hr; exact e); exact hJ q a (by omega)⟩
noncomputable def vKey (c sz ky : Int → Int) (t k b : Int) : Int :=
  if (0 ≤ t ∧ t < 4) ∧ (0 ≤ k ∧ k < 3) then (if ky (3 * t + k) = b then 0 else pif (b = 1 ∧ vRp c (sz t) t k) (-4) 1) else -1
noncomputable def vKeyS (c sz ky : Int → Int) (t k b : Int) : Int → Int := if vKey c sz ky t k b = 1 then updI ky (3 * t + k) b else ky
theorem T54_key {post : Int → Int → (Int → Int) → Prop} {c sz ky : Int → Int} {t k b : Int} (hs : ∀ t, 0 ≤ t → t < 4 → sz t ≤ 20) (hb : b = 0 ∨ b = 1) (hp : post (vKey c sz ky t k b) 0 (vKeyS c sz ky t k b)) : wpX54_key post c sz ky t k b := by
  unfold wpX54_key
  refine T54_isInB (fun a1 a2 => T54_isInB (fun b1 b2 => ⟨by omega, fun e => ?_, fun e => ⟨fun z => ?_, fun z => T54_repeatsB ⟨a1, a2⟩ ⟨b1, b2⟩ (hs t a1 a2) (fun r => ?_) (fun r => ?_)⟩⟩) (fun h => ?_)) (fun h => ?_)
  all_goals unfold vKeyS vKey at hp
  · simpa [a1, a2, b1, b2, e] using hp
  · refine ⟨hb, fun _ e2 => ?_⟩
    subst e2
    rw [if_pos ⟨⟨a1, a2⟩, b1, b2⟩, if_neg e, pif_f (by omega), if_pos rfl] at hp
    exact hp
  · rw [if_pos ⟨⟨a1, a2⟩, b1, b2⟩, if_neg e, pif_t ⟨by omega, r⟩] at hp
    simpa using hp
  · refine ⟨hb, fun _ e2 => ?_⟩
    subst e2
    rw [if_pos ⟨⟨a1, a2⟩, b1, b2⟩, if_neg e, pif_f (fun q => r q.2), if_pos rfl] at hp
    exact hp
  · rw [if_neg (fun q => h q.2)] at hp; simpa using hp
  · rw [if_neg (fun q => h q.1)] at hp; simpa using hp
noncomputable def vRow (c sz ky : Int → Int) (t a b d : Int) : Int :=
  if (0 ≤ t ∧ t < 4) ∧ (0 ≤ a ∧ a < 10000) ∧ (0 ≤ b ∧ b < 10000) ∧ (0 ≤ d ∧ d < 10000) then
    pif ((ky (3 * t) ≠ 0 ∧ vTh c (sz t) t 0 a) ∨ (ky (3 * t + 1) ≠ 0 ∧ vTh c (sz t) t 1 b) ∨ (ky (3 * t + 2) ≠ 0 ∧ vTh c (sz t) t 2 d)) (-4) (if sz t = 20 then -2 else sz t + 1)
  else -1
noncomputable def vRowC (c sz ky : Int → Int) (t a b d : Int) : Int → Int := if 0 < vRow c sz ky t a b d then updI (updI (updI c (60 * t + 3 * sz t) a) (60 * t + 3 * sz t + 1) b) (60 * t + 3 * sz t + 2) d else c
noncomputable def vRowZ (c sz ky : Int → Int) (t a b d : Int) : Int → Int := if 0 < vRow c sz ky t a b d then updI sz t (sz t + 1) else sz
theorem T54_row {post : Int → Int → (Int → Int) → (Int → Int) → Prop} {c sz ky : Int → Int} {t a b d : Int} (hs : ∀ t, 0 ≤ t → t < 4 → 0 ≤ sz t ∧ sz t ≤ 20) (hp : post (vRow c sz ky t a b d) 0 (vRowC c sz ky t a b d) (vRowZ c sz ky t a b d)) : wpX54_row post c sz ky t a b d := by
  unfold wpX54_row
  unfold vRowC vRowZ vRow at hp
  refine T54_isInB (fun t1 t2 => T54_isInB (fun a1 a2 => T54_isInB (fun b1 b2 => T54_isInB (fun d1 d2 => ⟨by omega, ?_⟩) (fun h => ?_)) (fun h => ?_)) (fun h => ?_)) (fun h => ?_)
  · have hz := hs t t1 t2
    rw [if_pos ⟨⟨t1, t2⟩, ⟨a1, a2⟩, ⟨b1, b2⟩, d1, d2⟩] at hp
    have fin : ¬ ((ky (3 * t) ≠ 0 ∧ vTh c (sz t) t 0 a) ∨ (ky (3 * t + 1) ≠ 0 ∧ vTh c (sz t) t 1 b) ∨ (ky (3 * t + 2) ≠ 0 ∧ vTh c (sz t) t 2 d)) → wX54_row_117 post t a b d 0 c sz := by
      intro hn
      rw [pif_f hn] at hp
      unfold wX54_row_117
      refine ⟨⟨t1, t2⟩, fun e => ?_, fun e => ⟨by omega, fun _ e1 => ?_⟩⟩
      · simpa [e] using hp
      · subst e1
        refine ⟨by omega, fun _ e1 => ?_⟩
        subst e1
        refine ⟨by omega, fun _ e1 => ?_⟩
        subst e1
        refine ⟨by omega, fun _ e1 => ?_⟩
        subst e1
        refine ⟨by omega, fun _ e1 => ?_⟩
        subst e1
        intro _ e1
        subst e1
        rw [updI_s]
        rw [if_neg e, if_pos (by omega), if_pos (by omega)] at hp
        exact hp
    have bad : ((ky (3 * t) ≠ 0 ∧ vTh c (sz t) t 0 a) ∨ (ky (3 * t + 1) ≠ 0 ∧ vTh c (sz t) t 1 b) ∨ (ky (3 * t + 2) ≠ 0 ∧ vTh c (sz t) t 2 d)) → post (-4) 0 c sz := by
      intro hn
      rw [pif_t hn] at hp
      simpa using hp
    have r90 : ¬ (ky (3 * t) ≠ 0 ∧ vTh c (sz t) t 0 a) → ¬ (ky (3 * t + 1) ≠ 0 ∧ vTh c (sz t) t 1 b) → wX54_row_90 post t a b d 0 c sz ky := by
      intro n0 n1
      unfold wX54_row_90
      refine ⟨by omega, fun e => fin (fun q => ?_), fun e => T54_isThereB ⟨t1, t2⟩ (by omega) hz.2 (fun q => bad (Or.inr (Or.inr ⟨e, q⟩))) (fun q => fin (fun q2 => ?_))⟩
      · rcases q with q | q | q
        · exact n0 q
        · exact n1 q
        · exact q.1 e
      · rcases q2 with q2 | q2 | q2
        · exact n0 q2
        · exact n1 q2
        · exact q q2.2
    have r67 : ¬ (ky (3 * t) ≠ 0 ∧ vTh c (sz t) t 0 a) → wX54_row_67 post t a b d 0 c sz ky := by
      intro n0
      unfold wX54_row_67
      exact ⟨by omega, fun e => r90 n0 (fun q => q.1 e), fun e => T54_isThereB ⟨t1, t2⟩ (by omega) hz.2 (fun q => bad (Or.inr (Or.inl ⟨e, q⟩))) (fun q => r90 n0 (fun q2 => q q2.2))⟩
    exact ⟨fun e => r67 (fun q => q.1 e), fun e => T54_isThereB ⟨t1, t2⟩ (by omega) hz.2 (fun q => bad (Or.inl ⟨e, q⟩)) (fun q => r67 (fun q2 => q q2.2))⟩
  all_goals
    rw [if_neg (by omega)] at hp
    simpa using hp
def vDrop (sz : Int → Int) (t i : Int) : Int := if (0 ≤ t ∧ t < 4) ∧ (0 ≤ i ∧ i < sz t) then sz t - 1 else -1
def vDropC (c sz : Int → Int) (t i : Int) : Int → Int := if (0 ≤ t ∧ t < 4) ∧ (0 ≤ i ∧ i < sz t) then fun j => if 60 * t + 3 * i ≤ j ∧ j < 60 * t + 3 * (sz t - 1) then c (j + 3) else c j else c
def vDropZ (sz : Int → Int) (t i : Int) : Int → Int := if (0 ≤ t ∧ t < 4) ∧ (0 ≤ i ∧ i < sz t) then updI sz t (sz t - 1) else sz
theorem T54_drop {post : Int → Int → (Int → Int) → (Int → Int) → Prop} {c sz : Int → Int} {t i : Int} (hs : ∀ t, 0 ≤ t → t < 4 → 0 ≤ sz t ∧ sz t ≤ 20) (hp : post (vDrop sz t i) 0 (vDropC c sz t i) (vDropZ sz t i)) : wpX54_drop post c sz t i := by
  unfold wpX54_drop
  unfold vDrop vDropC vDropZ at hp
  refine T54_isInB (fun t1 t2 => ⟨⟨t1, t2⟩, T54_isInB (fun i1 i2 => ?_) (fun h => ?_)⟩) (fun h => ?_)
  · have hz := hs t t1 t2
    rw [if_pos ⟨⟨t1, t2⟩, i1, i2⟩, if_pos ⟨⟨t1, t2⟩, i1, i2⟩, if_pos ⟨⟨t1, t2⟩, i1, i2⟩] at hp
    refine ⟨by omega, fun _ e1 => ?_⟩
    subst e1
    intro _ e1
    subst e1
    refine ⟨by omega, fun _ e1 => ?_⟩
    subst e1
    rw [updI_s]
    refine zl2 _ (fun k f => 3 * i ≤ k ∧ f = fun j => if 60 * t + 3 * i ≤ j ∧ j < 60 * t + k then c (j + 3) else c j) (3 * (sz t - 1)) ?_ ⟨by omega, ?_⟩ (by omega)
    · rintro n k f ⟨hk, rfl⟩ hN ih
      rw [wX54_drop_42]
      rw [updI_s]
      refine ⟨⟨t1, t2⟩, by omega, fun q => ?_, fun q => ⟨by omega, fun _ e1 => ?_⟩⟩
      · have : k = 3 * (sz t - 1) := by omega
        subst this
        exact hp
      · subst e1
        refine ⟨by omega, fun _ e1 => ?_⟩
        subst e1
        refine ⟨by omega, fun _ e1 => ?_⟩
        subst e1
        refine ih _ (by omega) ⟨by omega, ?_⟩
        funext j
        simp only [updI_e]
        grind
    · funext j
      grind
  all_goals
    rw [if_neg (by omega), if_neg (by omega), if_neg (by omega)] at hp
    exact hp
def vMapG (mc t p s c o d : Int) : Prop := (0 ≤ t ∧ t < 4) ∧ (0 ≤ p ∧ p < 8) ∧ (0 ≤ s ∧ s < 6) ∧ (0 ≤ c ∧ c < 3) ∧ (0 ≤ o ∧ o < 6) ∧ (0 ≤ d ∧ d < 3)
noncomputable def vMap (mc t p s c o d : Int) : Int := pif (vMapG mc t p s c o d) (if mc = 12 then -2 else mc) (-1)
noncomputable def vMapM (mp : Int → Int) (mc t p s c o d : Int) : Int → Int := pif (vMapG mc t p s c o d ∧ mc ≠ 12) (updI (updI (updI (updI (updI (updI mp (6 * mc) t) (6 * mc + 1) p) (6 * mc + 2) s) (6 * mc + 3) c) (6 * mc + 4) o) (6 * mc + 5) d) mp
noncomputable def vMapN (mc t p s c o d : Int) : Int := pif (vMapG mc t p s c o d ∧ mc ≠ 12) (mc + 1) mc
theorem T54_mapping {post : Int → Int → (Int → Int) → Int → Prop} {mp : Int → Int} {mc t p s c o d : Int} (hm : 0 ≤ mc ∧ mc ≤ 12) (hp : post (vMap mc t p s c o d) 0 (vMapM mp mc t p s c o d) (vMapN mc t p s c o d)) : wpX54_mapping post mp mc t p s c o d := by
  have bad : ¬ vMapG mc t p s c o d → post (-1) 0 mp mc := by
    intro h
    unfold vMap vMapM vMapN at hp
    rwa [pif_f h, pif_f (fun q => h q.1), pif_f (fun q => h q.1)] at hp
  unfold wpX54_mapping
  refine T54_isInB (fun _ _ => T54_isInB (fun _ _ => T54_isInB (fun _ _ => T54_isInB (fun _ _ => T54_isInB (fun _ _ => T54_isInB (fun _ _ => ?_) (fun h => bad ?_)) (fun h => bad ?_)) (fun h => bad ?_)) (fun h => bad ?_)) (fun h => bad ?_)) (fun h => bad ?_)
  · have hg : vMapG mc t p s c o d := by unfold vMapG; omega
    unfold vMap vMapM vMapN at hp
    refine ⟨fun e => ?_, fun e => ⟨by omega, fun _ e1 => ?_⟩⟩
    · rw [pif_t hg, pif_f (fun q => q.2 e), pif_f (fun q => q.2 e), if_pos e] at hp
      exact hp
    · subst e1
      rw [pif_t hg, pif_t ⟨hg, e⟩, pif_t ⟨hg, e⟩, if_neg e] at hp
      refine ⟨by omega, fun _ e1 => ?_⟩
      subst e1
      refine ⟨by omega, fun _ e1 => ?_⟩
      subst e1
      refine ⟨by omega, fun _ e1 => ?_⟩
      subst e1
      refine ⟨by omega, fun _ e1 => ?_⟩
      subst e1
      refine ⟨by omega, fun _ e1 => ?_⟩
      subst e1
      refine ⟨by omega, fun _ e1 => ?_⟩
      subst e1
      refine ⟨by omega, fun _ e1 => ?_⟩
      subst e1
      refine ⟨by omega, ?_⟩
      rw [Int.add_sub_cancel]
      exact hp
  all_goals
    unfold vMapG
    omega

/-! VirtualRewriteModel (X54): triples, the question -/
def vTp (mp : Int → Int) (m p : Int) : Int := mp (6 * m + 2 + 2 * p)
def vCo (mp : Int → Int) (m p : Int) : Int := mp (6 * m + 3 + 2 * p)
def vCell (c : Int → Int) (t r k : Int) : Int := c (60 * t + 3 * r + k)
/-- the term at a place of what a mapping says of a row -/
def vCode (c mp : Int → Int) (m r p : Int) : Int := 10000 * vTp mp m p + vCell c (mp (6 * m)) r (vCo mp m p)
/-- what is known of mappings and tables -/
def vOK (c sz mp : Int → Int) (mc : Int) : Prop := (0 ≤ mc ∧ mc ≤ 12) ∧ (∀ t, 0 ≤ t → t < 4 → 0 ≤ sz t ∧ sz t ≤ 20) ∧
  (∀ m, 0 ≤ m → m < mc → (0 ≤ mp (6 * m) ∧ mp (6 * m) < 4) ∧ (0 ≤ mp (6 * m + 1) ∧ mp (6 * m + 1) < 8) ∧ ∀ p, 0 ≤ p → p < 2 → (0 ≤ vTp mp m p ∧ vTp mp m p < 6) ∧ 0 ≤ vCo mp m p ∧ vCo mp m p < 3) ∧
  (∀ t r k, 0 ≤ t → t < 4 → 0 ≤ r → r < sz t → 0 ≤ k → k < 3 → 0 ≤ vCell c t r k ∧ vCell c t r k < 10000)
section
variable {c sz mp : Int → Int} {mc : Int}
theorem vOK.code (h : vOK c sz mp mc) {m r p : Int} (h1 : 0 ≤ m) (h2 : m < mc) (h3 : 0 ≤ r) (h4 : r < sz (mp (6 * m))) (h5 : 0 ≤ p) (h6 : p < 2) : 0 ≤ vCode c mp m r p ∧ vCode c mp m r p < 60000 := by
  obtain ⟨a, b, d⟩ := h.2.2.1 m h1 h2
  obtain ⟨e, f⟩ := d p h5 h6
  have := h.2.2.2 _ r _ a.1 a.2 h3 h4 f.1 f.2
  unfold vCode
  omega
theorem T54_codeOf {post : Int → Prop} (h : vOK c sz mp mc) {m r p : Int} (h1 : 0 ≤ m) (h2 : m < mc) (h3 : 0 ≤ r) (h4 : r < sz (mp (6 * m))) (h5 : 0 ≤ p) (h6 : p < 2) (hp : post (vCode c mp m r p)) : wpX54_codeOf post c mp m r p := by
  obtain ⟨a, b, d⟩ := h.2.2.1 m h1 h2
  obtain ⟨e, f⟩ := d p h5 h6
  have g := h.2.2.2 _ r _ a.1 a.2 h3 h4 f.1 f.2
  have hm := h.1
  have hz := h.2.1 _ a.1 a.2
  unfold vTp vCo vCell at *
  unfold wpX54_codeOf wpX54_templateOf wpX54_columnOf wpX54_cell
  refine ⟨by omega, by omega, by omega, by omega, by omega, ?_⟩
  exact hp
/-- a row of a mapping says what one before it says -/
def vSaid (c sz mp : Int → Int) (mc m r : Int) : Prop := ∃ o q, 0 ≤ o ∧ o < mc ∧ 0 ≤ q ∧ q < sz (mp (6 * o)) ∧ (o < m ∨ (o = m ∧ q < r)) ∧ mp (6 * o + 1) = mp (6 * m + 1) ∧ vCode c mp o q 0 = vCode c mp m r 0 ∧ vCode c mp o q 1 = vCode c mp m r 1
noncomputable def vTri1 (c sz mp : Int → Int) (mc m : Int) (n : Nat) : Int := cntI (fun r => ¬ vSaid c sz mp mc m r) n
noncomputable def vTri (c sz mp : Int → Int) (mc : Int) : Nat → Int
  | 0 => 0
  | n + 1 => vTri c sz mp mc n + vTri1 c sz mp mc n (sz (mp (6 * n))).toNat
theorem vTri_b (h : vOK c sz mp mc) : ∀ n : Nat, (n : Int) ≤ mc → 0 ≤ vTri c sz mp mc n ∧ vTri c sz mp mc n ≤ 20 * n
  | 0, _ => ⟨Int.le_refl 0, Int.le_refl 0⟩
  | n + 1, hn => by
    have h1 := vTri_b h n (by omega)
    obtain ⟨a, -, -⟩ := h.2.2.1 n (by omega) (by omega)
    have h2 := h.2.1 _ a.1 a.2
    have h3 := cntI_b (fun r => ¬ vSaid c sz mp mc n r) (sz (mp (6 * n))).toNat
    unfold vTri vTri1
    omega
theorem T54_triples {post : Int → Int → Prop} (h : vOK c sz mp mc) (hp : post (vTri c sz mp mc mc.toNat) 0) : wpX54_triples post c sz mp mc := by
  have hmc := h.1
  unfold wpX54_triples
  refine wloop (fun n (s : Int × Int) => wX54_triples_9 _ c sz mp mc n s.1 s.2) (fun s => 0 ≤ s.2 ∧ s.2 ≤ mc ∧ s.1 = vTri c sz mp mc s.2.toNat) (fun s => (mc - s.2).toNat) ?_ (0, 0) ⟨by decide, by dsimp only; omega, rfl⟩
  rintro ⟨k, m⟩ ⟨hm, hm2, ek⟩ n ih
  dsimp only at hm hm2 ih ek ⊢
  subst ek
  rw [wX54_triples_9]
  refine ⟨fun q => ?_, fun q => ?_⟩
  · have : m = mc := by omega
    subst this; exact hp
  · obtain ⟨ha, hb, hd⟩ := h.2.2.1 m hm (by omega)
    have hz := h.2.1 _ ha.1 ha.2
    have hT := vTri_b h m.toNat (by omega)
    refine wloop (fun n (s : Int × Int) => wX54_triples_19 _ m c sz mp mc n s.1 s.2) (fun s => 0 ≤ s.2 ∧ s.2 ≤ sz (mp (6 * m)) ∧ s.1 = vTri c sz mp mc m.toNat + vTri1 c sz mp mc m s.2.toNat) (fun s => (sz (mp (6 * m)) - s.2).toNat) ?_ (_, 0) ⟨Int.le_refl 0, by dsimp only; omega, by simp [vTri1, cntI]⟩
    rintro ⟨k, r⟩ ⟨hr, hr2, ek⟩ n2 ih2
    dsimp only at hr hr2 ih2 ek ⊢
    subst ek
    rw [wX54_triples_19]
    have hT1 := cntI_b (fun r => ¬ vSaid c sz mp mc m r) r.toNat
    refine ⟨by omega, ha, fun q => ?_, fun q => ?_⟩
    · refine ⟨by omega, fun _ e1 => ?_⟩
      subst e1
      have er : r = sz (mp (6 * m)) := by omega
      refine ih (_, m + 1) ⟨by dsimp only; omega, by dsimp only; omega, ?_⟩ (by dsimp only; omega)
      dsimp only
      have : (m + 1).toNat = m.toNat + 1 := by omega
      rw [this, vTri, er]
      have : ((m.toNat : Nat) : Int) = m := by omega
      rw [this]
    · -- all others
      have other : ∀ b : Int, (b = 0 ∨ b = 1) → (b = 1 ↔ vSaid c sz mp mc m r) → wX54_triples_198 (wX54_triples_19 (fun x1_67 => zR (m + 1) ∧ ∀ x2_68 : Int, x2_68 = m + 1 → wX54_triples_9 (fun x1_70 => post x1_70 0) c sz mp mc n x1_67 x2_68) m c sz mp mc n2) (vTri c sz mp mc m.toNat + vTri1 c sz mp mc m r.toNat) r b := by
        intro b hb0 hb
        have er : (r + 1).toNat = r.toNat + 1 := by omega
        have er2 : ((r.toNat : Nat) : Int) = r := by omega
        unfold vTri1 at *
        unfold wX54_triples_198
        refine ⟨fun e => ⟨by omega, fun _ e1 => ⟨by omega, fun _ e2 => ?_⟩⟩, fun e => ⟨by omega, fun _ e1 => ⟨by omega, fun _ e2 => ?_⟩⟩⟩
        · subst e1 e2
          refine ih2 (_, r + 1) ⟨by dsimp only; omega, by dsimp only; omega, ?_⟩ (by dsimp only; omega)
          dsimp only
          rw [er, cntI, er2, pif_t (fun z => by have := hb.mpr z; omega)]
          omega
        · subst e1 e2
          refine ih2 (_, r + 1) ⟨by dsimp only; omega, by dsimp only; omega, ?_⟩ (by dsimp only; omega)
          dsimp only
          rw [er, cntI, er2, pif_f (fun z => z (hb.mp (by omega)))]
          omega
      refine wloop (fun n (s : Int × Int) => wX54_triples_43 _ m r c sz mp mc n s.1 s.2) (fun s => (0 ≤ s.2 ∧ s.2 ≤ mc) ∧ (s.1 = 0 ∨ s.1 = 1) ∧ (s.1 = 1 → vSaid c sz mp mc m r) ∧ (s.1 = 0 → ∀ o q, 0 ≤ o → o < s.2 → 0 ≤ q → q < sz (mp (6 * o)) → ¬ ((o < m ∨ (o = m ∧ q < r)) ∧ mp (6 * o + 1) = mp (6 * m + 1) ∧ vCode c mp o q 0 = vCode c mp m r 0 ∧ vCode c mp o q 1 = vCode c mp m r 1))) (fun s => (mc - s.2).toNat) ?_ (0, 0) ⟨by dsimp only; omega, by decide, by simp, fun _ o q a b => by dsimp only at b; omega⟩
      rintro ⟨g, o⟩ ⟨ho, hg, hg1, hg0⟩ n3 ih3
      dsimp only at ho hg hg1 hg0 ih3 ⊢
      rw [wX54_triples_43]
      refine ⟨fun q => ?_, fun q => ⟨fun e => ?_, fun e => other g hg ⟨hg1, fun _ => by omega⟩⟩⟩
      · refine other g hg ⟨hg1, fun ⟨o2, q2, a1, a2, a3, a4, a5⟩ => ?_⟩
        rcases hg with e | e
        · exact absurd a5 (hg0 e o2 q2 a1 (by omega) a3 a4)
        · exact e
      · obtain ⟨ha', hb', hd'⟩ := h.2.2.1 o ho.1 (by omega)
        have hz' := h.2.1 _ ha'.1 ha'.2
        refine wloop (fun n (s : Int × Int) => wX54_triples_60 _ m r o c sz mp n s.1 s.2) (fun s => (0 ≤ s.2 ∧ s.2 ≤ sz (mp (6 * o))) ∧ (s.1 = 0 ∨ s.1 = 1) ∧ (s.1 = 1 → vSaid c sz mp mc m r) ∧ (s.1 = 0 → ∀ q, 0 ≤ q → q < s.2 → ¬ ((o < m ∨ (o = m ∧ q < r)) ∧ mp (6 * o + 1) = mp (6 * m + 1) ∧ vCode c mp o q 0 = vCode c mp m r 0 ∧ vCode c mp o q 1 = vCode c mp m r 1))) (fun s => (sz (mp (6 * o)) - s.2).toNat) ?_ (g, 0) ⟨by dsimp only; omega, hg, hg1, fun _ q a b => by dsimp only at b; omega⟩
        rintro ⟨g2, w⟩ ⟨hw, hg', hg1', hg0'⟩ n4 ih4
        dsimp only at hw hg' hg1' hg0' ih4 ⊢
        rw [wX54_triples_60]
        have leave : g2 = 1 ∨ w = sz (mp (6 * o)) → (zR (o + 1) ∧ ∀ x5_51 : Int, x5_51 = o + 1 → wX54_triples_43 (fun x4_53 => wX54_triples_198 (wX54_triples_19 (fun x1_67 => zR (m + 1) ∧ ∀ x2_68 : Int, x2_68 = m + 1 → wX54_triples_9 (fun x1_70 => post x1_70 0) c sz mp mc n x1_67 x2_68) m c sz mp mc n2) (vTri c sz mp mc m.toNat + vTri1 c sz mp mc m r.toNat) r x4_53) m r c sz mp mc n3 g2 x5_51) := by
          intro hl
          refine ⟨by omega, fun _ e1 => ?_⟩
          subst e1
          refine ih3 (g2, o + 1) ⟨by dsimp only; omega, hg', hg1', ?_⟩ (by dsimp only; omega)
          dsimp only
          intro e0 o2 q2 a1 a2 a3 a4
          by_cases ho2 : o2 = o
          · subst ho2
            exact hg0' e0 q2 a3 (by omega)
          · exact hg0 e o2 q2 a1 (by omega) a3 a4
        have go : ∀ y : Int, (y = 0 ∨ y = 1) → (y = 1 ↔ (o < m ∨ (o = m ∧ w < r))) → g2 = 0 → w < sz (mp (6 * o)) → wX54_triples_108 (wX54_triples_60 (fun x4_50 => zR (o + 1) ∧ ∀ x5_51 : Int, x5_51 = o + 1 → wX54_triples_43 (fun x4_53 => wX54_triples_198 (wX54_triples_19 (fun x1_67 => zR (m + 1) ∧ ∀ x2_68 : Int, x2_68 = m + 1 → wX54_triples_9 (fun x1_70 => post x1_70 0) c sz mp mc n x1_67 x2_68) m c sz mp mc n2) (vTri c sz mp mc m.toNat + vTri1 c sz mp mc m r.toNat) r x4_53) m r c sz mp mc n3 x4_50 x5_51) m r o c sz mp n4) m r o w y c mp := by
          intro y hy0 hy e0 hlt
          have no : ¬ ((o < m ∨ (o = m ∧ w < r)) ∧ mp (6 * o + 1) = mp (6 * m + 1) ∧ vCode c mp o w 0 = vCode c mp m r 0 ∧ vCode c mp o w 1 = vCode c mp m r 1) → (zR (w + 1) ∧ ∀ x : Int, x = w + 1 → wX54_triples_60 (fun x4_50 => zR (o + 1) ∧ ∀ x5_51 : Int, x5_51 = o + 1 → wX54_triples_43 (fun x4_53 => wX54_triples_198 (wX54_triples_19 (fun x1_67 => zR (m + 1) ∧ ∀ x2_68 : Int, x2_68 = m + 1 → wX54_triples_9 (fun x1_70 => post x1_70 0) c sz mp mc n x1_67 x2_68) m c sz mp mc n2) (vTri c sz mp mc m.toNat + vTri1 c sz mp mc m r.toNat) r x4_53) m r c sz mp mc n3 x4_50 x5_51) m r o c sz mp n4 0 x) := by
            intro hn
            refine ⟨by omega, fun _ e1 => ?_⟩
            subst e1
            refine ih4 (0, w + 1) ⟨by dsimp only; omega, by simp, by simp, ?_⟩ (by dsimp only; omega)
            dsimp only
            intro _ q a b
            by_cases hq : q = w
            · subst hq; exact hn
            · exact hg0' e0 q a (by omega)
          unfold wX54_triples_108
          refine ⟨fun q => no (fun z => by have := hy.mpr z.1; omega), fun q => ⟨by omega, by omega, fun e1 => ?_, fun e1 => no (fun z => e1 z.2.1)⟩⟩
          refine T54_codeOf h ho.1 (by omega) hw.1 hlt (by omega) (by omega) (T54_codeOf h hm (by omega) hr (by omega) (by omega) (by omega) ⟨fun e2 => ?_, fun e2 => no (fun z => e2 z.2.2.1)⟩)
          refine T54_codeOf h ho.1 (by omega) hw.1 hlt (by omega) (by omega) (T54_codeOf h hm (by omega) hr (by omega) (by omega) (by omega) ⟨fun e3 => ?_, fun e3 => no (fun z => e3 z.2.2.2)⟩)
          refine ⟨by omega, fun _ e4 => ?_⟩
          subst e4
          exact ih4 (1, w + 1) ⟨by dsimp only; omega, by simp, fun _ => ⟨o, w, ho.1, by omega, hw.1, hlt, hy.mp (by omega), e1, e2, e3⟩, by simp⟩ (by dsimp only; omega)
        refine ⟨by omega, ha', fun q => leave (Or.inr (by omega)), fun q => ⟨fun e2 => ⟨fun l1 => ?_, fun l1 => ⟨fun l2 => ⟨fun l3 => ?_, fun l3 => ?_⟩, fun l2 => ?_⟩⟩, fun e2 => leave (Or.inl (by omega))⟩⟩
        · exact go 1 (by simp) (by simp; omega) e2 (by omega)
        · exact go 0 (by simp) (by simp; omega) e2 (by omega)
        · exact go 1 (by simp) (by simp; omega) e2 (by omega)
        · exact go 0 (by simp) (by simp; omega) e2 (by omega)
end
noncomputable def vAtomG (p s o : Int) : Prop := (0 ≤ p ∧ p < 8) ∧ (-6 ≤ s ∧ s < 60000) ∧ (-6 ≤ o ∧ o < 60000)
noncomputable def vAtom (ac p s o : Int) : Int := pif (vAtomG p s o) (if ac = 4 then -2 else ac + 1) (-1)
noncomputable def vAtomA (at_ : Int → Int) (ac p s o : Int) : Int → Int := pif (vAtomG p s o ∧ ac ≠ 4) (updI (updI (updI at_ (3 * ac) p) (3 * ac + 1) s) (3 * ac + 2) o) at_
noncomputable def vAtomN (ac p s o : Int) : Int := pif (vAtomG p s o ∧ ac ≠ 4) (ac + 1) ac
theorem T54_atom {post : Int → Int → (Int → Int) → Int → Prop} {at_ : Int → Int} {ac p s o : Int} (ha : 0 ≤ ac ∧ ac ≤ 4) (hp : post (vAtom ac p s o) 0 (vAtomA at_ ac p s o) (vAtomN ac p s o)) : wpX54_atom post at_ ac p s o := by
  have bad : ¬ vAtomG p s o → post (-1) 0 at_ ac := by
    intro h
    unfold vAtom vAtomA vAtomN at hp
    rwa [pif_f h, pif_f (fun q => h q.1), pif_f (fun q => h q.1)] at hp
  unfold wpX54_atom
  refine T54_isInB (fun _ _ => ⟨fun h => bad ?_, fun _ => ⟨fun h => bad ?_, fun _ => ⟨fun h => bad ?_, fun _ => ⟨fun _ => ?_, fun h => bad ?_⟩⟩⟩⟩) (fun h => bad ?_)
  rotate_left 3
  · have hg : vAtomG p s o := by unfold vAtomG; omega
    unfold vAtom vAtomA vAtomN at hp
    refine ⟨fun e => ?_, fun e => ⟨by omega, fun _ e1 => ?_⟩⟩
    · rw [pif_t hg, pif_f (fun q => q.2 e), pif_f (fun q => q.2 e), if_pos e] at hp
      exact hp
    · subst e1
      rw [pif_t hg, pif_t ⟨hg, e⟩, pif_t ⟨hg, e⟩, if_neg e] at hp
      refine ⟨by omega, fun _ e1 => ?_⟩
      subst e1
      refine ⟨by omega, fun _ e1 => ?_⟩
      subst e1
      refine ⟨by omega, fun _ e1 => ?_⟩
      subst e1
      exact hp
  all_goals
    unfold vAtomG
    omega
noncomputable def vSpan (sc v : Int) : Int := if 0 ≤ v ∧ v < 6 then (if sc = 4 then -2 else sc + 1) else -1
noncomputable def vSpanA (sp : Int → Int) (sc v a b : Int) : Int → Int := if (0 ≤ v ∧ v < 6) ∧ sc ≠ 4 then updI (updI (updI sp (3 * sc) v) (3 * sc + 1) a) (3 * sc + 2) b else sp
noncomputable def vSpanN (sc v : Int) : Int := if (0 ≤ v ∧ v < 6) ∧ sc ≠ 4 then sc + 1 else sc
theorem T54_span {post : Int → Int → (Int → Int) → Int → Prop} {sp : Int → Int} {sc v a b : Int} (ha : 0 ≤ sc ∧ sc ≤ 4) (hp : post (vSpan sc v) 0 (vSpanA sp sc v a b) (vSpanN sc v)) : wpX54_span post sp sc v a b := by
  unfold wpX54_span
  unfold vSpan vSpanA vSpanN at hp
  refine T54_isInB (fun h1 h2 => ⟨fun e => ?_, fun e => ⟨by omega, fun _ e1 => ?_⟩⟩) (fun h => ?_)
  · rw [if_pos ⟨h1, h2⟩, if_pos e, if_neg (by omega), if_neg (by omega)] at hp; exact hp
  · subst e1
    rw [if_pos ⟨h1, h2⟩, if_neg e, if_pos ⟨⟨h1, h2⟩, e⟩, if_pos ⟨⟨h1, h2⟩, e⟩] at hp
    refine ⟨by omega, fun _ e1 => ?_⟩
    subst e1
    refine ⟨by omega, fun _ e1 => ?_⟩
    subst e1
    refine ⟨by omega, fun _ e1 => ?_⟩
    subst e1
    exact hp
  · rw [if_neg h, if_neg (by omega), if_neg (by omega)] at hp; exact hp

/-! VirtualRewriteModel (X54): which choices of mappings are good; slots; all of them one behind the other -/
noncomputable def cntP (p : Nat → Prop) : Nat → Nat
  | 0 => 0
  | n + 1 => cntP p n + pif (p n) 1 0
theorem cntP_t {p : Nat → Prop} {n : Nat} (h : p n) : cntP p (n + 1) = cntP p n + 1 := by rw [cntP, pif_t h]
theorem cntP_f {p : Nat → Prop} {n : Nat} (h : ¬ p n) : cntP p (n + 1) = cntP p n := by rw [cntP, pif_f h]; rfl
theorem cntP_s (p : Nat → Prop) (n : Nat) : cntP p n ≤ cntP p (n + 1) := by
  by_cases h : p n
  · rw [cntP_t h]; omega
  · rw [cntP_f h]; omega
theorem cntP_m (p : Nat → Prop) {a b : Nat} (h : a ≤ b) : cntP p a ≤ cntP p b := by
  induction h with
  | refl => exact Nat.le_refl _
  | step _ ih => exact Nat.le_trans ih (cntP_s p _)
theorem cntP_lt {p : Nat → Prop} {a b : Nat} (h : a < b) (hp : p a) : cntP p a < cntP p b := by
  have := cntP_m p (show a + 1 ≤ b from h)
  rw [cntP_t hp] at this
  omega
theorem cntP_ex {p : Nat → Prop} : ∀ {n u : Nat}, u < cntP p n → ∃ i, i < n ∧ p i ∧ cntP p i = u
  | 0, u, h => by simp [cntP] at h
  | n + 1, u, h => by
    by_cases hp : p n
    · rw [cntP_t hp] at h
      by_cases hu : u = cntP p n
      · exact ⟨n, by omega, hp, hu.symm⟩
      · obtain ⟨i, h1, h2, h3⟩ := cntP_ex (p := p) (n := n) (u := u) (by omega)
        exact ⟨i, by omega, h2, h3⟩
    · rw [cntP_f hp] at h
      obtain ⟨i, h1, h2, h3⟩ := cntP_ex h
      exact ⟨i, by omega, h2, h3⟩
/-- the one with the number u of those with p -/
noncomputable def nthP (p : Nat → Prop) (u : Nat) : Nat := @Classical.epsilon Nat ⟨0⟩ (fun i => p i ∧ cntP p i = u)
theorem nthP_of {p : Nat → Prop} {i : Nat} (h : p i) : nthP p (cntP p i) = i := by
  have hs := @Classical.epsilon_spec Nat (fun j => p j ∧ cntP p j = cntP p i) ⟨i, h, rfl⟩
  have e : nthP p (cntP p i) = @Classical.epsilon Nat ⟨0⟩ (fun j => p j ∧ cntP p j = cntP p i) := rfl
  rw [← e] at hs
  rcases Nat.lt_trichotomy (nthP p (cntP p i)) i with q | q | q
  · have := cntP_lt q hs.1; omega
  · exact q
  · have := cntP_lt q h; omega
theorem nthP_in {p : Nat → Prop} {n u : Nat} (h : u < cntP p n) : nthP p u < n ∧ p (nthP p u) ∧ cntP p (nthP p u) = u := by
  obtain ⟨i, h1, h2, h3⟩ := cntP_ex h
  subst h3
  rw [nthP_of h2]
  exact ⟨h1, h2, rfl⟩
/-- digits, the last one first of all to change -/
def dgt (M : Nat) : Nat → Nat → Int → Int
  | 0, _, _ => 0
  | n + 1, i, k => if k = n then ((i % M : Nat) : Int) else dgt M n (i / M) k
theorem dgt_b {M : Nat} (hM : 0 < M) : ∀ n i k, 0 ≤ dgt M n i k ∧ dgt M n i k < M
  | 0, i, k => by unfold dgt; omega
  | n + 1, i, k => by
    unfold dgt
    split
    · have := Nat.mod_lt i hM; omega
    · exact dgt_b hM n (i / M) k
theorem dgt_0 {M : Nat} : ∀ n k, dgt M n 0 k = 0
  | 0, k => rfl
  | n + 1, k => by
    unfold dgt
    split
    · simp
    · rw [Nat.zero_div]; exact dgt_0 n k
theorem md1 {M i : Nat} (hM : 0 < M) (h : i % M ≠ M - 1) : (i + 1) % M = i % M + 1 ∧ (i + 1) / M = i / M := by
  have h1 := Nat.mod_lt i hM
  have h2 := Nat.div_add_mod i M
  have h3 : i + 1 = M * (i / M) + (i % M + 1) := by omega
  constructor
  · rw [h3, Nat.mul_add_mod, Nat.mod_eq_of_lt (by omega)]
  · have h4 : (i % M + 1) / M = 0 := Nat.div_eq_of_lt (by omega)
    rw [h3, Nat.mul_add_div hM, h4, Nat.add_zero]
theorem md2 {M i : Nat} (hM : 0 < M) (h : i % M = M - 1) : (i + 1) % M = 0 ∧ (i + 1) / M = i / M + 1 := by
  have h2 := Nat.div_add_mod i M
  have h3 : i + 1 = M * (i / M + 1) := by rw [Nat.mul_add]; omega
  constructor
  · rw [h3]; exact Nat.mul_mod_right _ _
  · rw [h3, Nat.mul_div_cancel_left _ hM]
def ag (n : Int) (f g : Int → Int) : Prop := ∀ k, 0 ≤ k → k < n → f k = g k
theorem T54_next7 {M : Nat} (hM : 0 < M) (hM2 : M ≤ 12) {K : Int → (Int → Int) → Prop} : ∀ (n i : Nat) (f : Int → Int), n ≤ 4 → ag n f (dgt M n i) →
    (i + 1 < M ^ n → ∀ (k : Int) (f' : Int → Int), 0 ≤ k → k < (n : Int) → ag n (updI f' k (f' k + 1)) (dgt M n (i + 1)) → (∀ j, (n : Int) ≤ j → f' j = f j) → (0 ≤ f' k ∧ f' k < 12) → K k f') →
    (M ^ n ≤ i + 1 → ∀ f', (∀ j, (n : Int) ≤ j → f' j = f j) → K (-1) f') → i < M ^ n → ∃ fu, wX54_next_7 K M fu ((n : Int) - 1) f := by
  intro n
  induction n with
  | zero =>
    intro i f hn hf h1 h2 hi
    refine ⟨1, ?_⟩
    rw [wX54_next_7]
    refine ⟨fun _ => ?_, fun q => absurd (by decide) q⟩
    exact h2 (by simp) f (fun _ _ => rfl)
  | succ n ih =>
    intro i f hn hf h1 h2 hi
    have hl : f n = ((i % M : Nat) : Int) := by rw [hf n (by omega) (by omega)]; simp [dgt]
    have hr := Nat.mod_lt i hM
    have hd : i / M < M ^ n := by rw [Nat.div_lt_iff_lt_mul hM]; rw [Nat.pow_succ] at hi; exact hi
    have e0 : (((n + 1 : Nat) : Int) - 1) = n := by omega
    rw [e0]
    by_cases hm : i % M = M - 1
    · obtain ⟨m1, m2⟩ := md2 hM hm
      have hp : M ^ (n + 1) = M ^ n * M := Nat.pow_succ ..
      have key : ∀ x, x + 1 < M ^ n ↔ M * x + (M - 1) + 1 < M ^ (n + 1) := by
        intro x
        rw [hp, show M * x + (M - 1) + 1 = (x + 1) * M by rw [Nat.add_mul, Nat.mul_comm x M]; omega]
        exact (Nat.mul_lt_mul_right hM).symm
      have hq : i / M + 1 < M ^ n ↔ i + 1 < M ^ (n + 1) := by
        rw [key (i / M)]
        have := Nat.div_add_mod i M
        rw [hm] at this
        rw [this]
      obtain ⟨fu, hfu⟩ := ih (i / M) (updI f n 0) (by omega) (fun k a b => by
          rw [updI_n (by omega), hf k a (by omega)]
          simp only [dgt]
          rw [if_neg (by omega)])
        (fun hlt k f' a b hag hout hr' => h1 (hq.mp hlt) k f' a (by omega) (fun j c d => by
          by_cases hj : j = n
          · subst hj
            rw [updI_n (by omega), hout n (by omega), updI_s]
            simp [dgt, m1]
          · rw [hag j c (by omega)]
            simp only [dgt]
            rw [if_neg hj, m2]) (fun j c => by rw [hout j (by omega), updI_n (by omega)]) hr')
        (fun hge f' hout => h2 (by have := (not_congr hq).mp (by omega); omega) f' (fun j c => by rw [hout j (by omega), updI_n (by omega)])) hd
      refine ⟨fu + 1, ?_⟩
      rw [wX54_next_7]
      refine ⟨fun q => by omega, fun q => ⟨by omega, by omega, fun e => fun _ e1 => ⟨by omega, fun _ e2 => ?_⟩, fun e => absurd (by rw [hl]; omega) e⟩⟩
      subst e1 e2
      exact hfu
    · obtain ⟨m1, m2⟩ := md1 hM hm
      have hlt : i + 1 < M ^ (n + 1) := by
        rw [Nat.pow_succ]
        have := (Nat.div_lt_iff_lt_mul hM (x := i + 1) (y := M ^ n)).mp (by rw [m2]; exact hd)
        exact this
      refine ⟨1, ?_⟩
      rw [wX54_next_7]
      refine ⟨fun q => by omega, fun q => ⟨by omega, by omega, fun e => absurd e (by rw [hl]; omega), fun e => ?_⟩⟩
      refine h1 hlt n f (by omega) (by omega) (fun j c d => ?_) (fun _ _ => rfl) (by rw [hl]; omega)
      by_cases hj : j = n
      · subst hj
        rw [updI_s, hl]
        simp [dgt, m1]
      · rw [updI_n hj, hf j c d]
        simp only [dgt]
        rw [if_neg hj, if_neg hj, m2]
theorem T54_next {M n i : Nat} (hM : 0 < M) (hM2 : M ≤ 12) (hn : n ≤ 4) {post : Int → (Int → Int) → Prop} {f : Int → Int} (hf : ag n f (dgt M n i)) (hi : i < M ^ n)
    (h1 : i + 1 < M ^ n → ∀ f', ag n f' (dgt M n (i + 1)) → post 1 f') (h2 : i + 1 = M ^ n → ∀ f', post 0 f') : wpX54_next post M n f := by
  unfold wpX54_next
  refine ⟨by omega, fun _ e1 => ?_⟩
  subst e1
  refine T54_next7 hM hM2 n i f hn hf ?_ ?_ hi
  · intro hlt k f' a b hag _ hr
    refine ⟨fun q => ⟨by omega, by omega, fun _ e1 _ e2 => ?_⟩, fun q => absurd a q⟩
    subst e1 e2
    exact h1 hlt _ hag
  · intro hge f' _
    exact ⟨fun q => absurd q (by decide), fun _ => h2 (by omega) f'⟩
def vPl (at_ : Int → Int) (i : Int) : Int := at_ (3 * (i / 2) + 1 + i % 2)
def vTt (mp tr : Int → Int) (i : Int) : Int := vTp mp (tr (i / 2)) (i % 2)
def vGood (mp at_ : Int → Int) (ac : Int) (tr : Int → Int) : Prop :=
  (∀ k, 0 ≤ k → k < ac → mp (6 * tr k + 1) = at_ (3 * k)) ∧ ∀ i, 0 ≤ i → i < 2 * ac → (0 ≤ vPl at_ i → vPl at_ i / 10000 = vTt mp tr i) ∧ ∀ j, 0 ≤ j → j < i → vPl at_ i < 0 → vPl at_ j = vPl at_ i → vTt mp tr j = vTt mp tr i
theorem vGood_c {mp at_ : Int → Int} {ac : Int} {tr tr' : Int → Int} (h : ag ac tr tr') : vGood mp at_ ac tr ↔ vGood mp at_ ac tr' := by
  have e : ∀ i, 0 ≤ i → i < 2 * ac → vTt mp tr i = vTt mp tr' i := fun i a b => by unfold vTt; rw [h (i / 2) (by omega) (by omega)]
  unfold vGood
  constructor
  · rintro ⟨a, b⟩
    refine ⟨fun k c d => by rw [← h k c d]; exact a k c d, fun i c d => ⟨fun q => by rw [← e i c d]; exact (b i c d).1 q, fun j q1 q2 q3 q4 => by rw [← e i c d, ← e j q1 (by omega)]; exact (b i c d).2 j q1 q2 q3 q4⟩⟩
  · rintro ⟨a, b⟩
    refine ⟨fun k c d => by rw [h k c d]; exact a k c d, fun i c d => ⟨fun q => by rw [e i c d]; exact (b i c d).1 q, fun j q1 q2 q3 q4 => by rw [e i c d, e j q1 (by omega)]; exact (b i c d).2 j q1 q2 q3 q4⟩⟩
theorem T54_isGoodB {A B : Prop} {mp at_ tr : Int → Int} {ac : Int} (ha : 0 ≤ ac ∧ ac ≤ 4) (ht : ∀ k, 0 ≤ k → k < ac → 0 ≤ tr k ∧ tr k < 12) (h1 : vGood mp at_ ac tr → B) (h0 : ¬ vGood mp at_ ac tr → A) : wpX54_isGood (fun r => (r = 0 → A) ∧ (¬ r = 0 → B)) mp at_ ac tr := by
  unfold wpX54_isGood
  have no : ¬ vGood mp at_ ac tr → (((0 : Int) = 0 → A) ∧ (¬ (0 : Int) = 0 → B)) := fun h => ⟨fun _ => h0 h, fun q => absurd rfl q⟩
  refine zl1 _ (fun k => 0 ≤ k ∧ ∀ j, 0 ≤ j → j < k → mp (6 * tr j + 1) = at_ (3 * j)) ac ?_ ⟨by omega, by omega⟩ ha.1
  intro n k ⟨hk, hK⟩ hN ih
  rw [wX54_isGood_2]
  refine ⟨fun q => ?_, fun q => ?_⟩
  · have : k = ac := by omega
    subst this
    refine zl1 _ (fun i => 0 ≤ i ∧ ∀ i', 0 ≤ i' → i' < i → (0 ≤ vPl at_ i' → vPl at_ i' / 10000 = vTt mp tr i') ∧ ∀ j, 0 ≤ j → j < i' → vPl at_ i' < 0 → vPl at_ j = vPl at_ i' → vTt mp tr j = vTt mp tr i') (2 * k) ?_ ⟨by omega, by omega⟩ (by omega)
    intro n2 i ⟨hi, hI⟩ hN2 ih2
    rw [wX54_isGood_47]
    refine ⟨by omega, fun q => ⟨fun q => absurd q (by decide), fun _ => h1 ⟨hK, fun i' a b => hI i' a (by omega)⟩⟩, fun q => ?_⟩
    have hti := ht (i / 2) (by omega) (by omega)
    unfold wpX54_placeOf wpX54_templateOf
    refine ⟨hi, by omega, by omega, by omega, ?_⟩
    have ep : at_ (3 * (i / 2) + 1 + i % 2) = vPl at_ i := rfl
    have et : mp (6 * tr (i / 2) + 2 + 2 * (i % 2)) = vTt mp tr i := rfl
    rw [ep, et]
    have inner : (0 ≤ vPl at_ i → vPl at_ i / 10000 = vTt mp tr i) → ∃ fu, wX54_isGood_102 (((0 : Int) = 0 → A) ∧ (¬ (0 : Int) = 0 → B)) (zR (i + 1) ∧ ∀ x : Int, x = i + 1 → wX54_isGood_47 (((0 : Int) = 0 → A) ∧ (¬ (0 : Int) = 0 → B)) (((0 : Int) = 0 → A) ∧ (¬ (0 : Int) = 0 → B)) (((1 : Int) = 0 → A) ∧ (¬ (1 : Int) = 0 → B)) mp at_ k tr n2 x) i (vPl at_ i) (vTt mp tr i) mp at_ tr fu 0 := by
      intro hc
      refine zl1 _ (fun j => 0 ≤ j ∧ ∀ j', 0 ≤ j' → j' < j → vPl at_ i < 0 → vPl at_ j' = vPl at_ i → vTt mp tr j' = vTt mp tr i) i ?_ ⟨by omega, by omega⟩ hi
      intro n3 j ⟨hj, hJ⟩ hN3 ih3
      rw [wX54_isGood_102]
      refine ⟨fun q => ⟨by omega, fun _ e1 => ?_⟩, fun q => ?_⟩
      · subst e1
        refine ih2 (by omega) ⟨by omega, fun i' a b => ?_⟩
        by_cases hi' : i' = i
        · subst hi'
          exact ⟨hc, fun j' c d => hJ j' c (by omega)⟩
        · exact hI i' a (by omega)
      · have go : (vPl at_ i < 0 → vPl at_ j = vPl at_ i → vTt mp tr j = vTt mp tr i) → (zR (j + 1) ∧ ∀ x : Int, x = j + 1 → wX54_isGood_102 (((0 : Int) = 0 → A) ∧ (¬ (0 : Int) = 0 → B)) (zR (i + 1) ∧ ∀ x : Int, x = i + 1 → wX54_isGood_47 (((0 : Int) = 0 → A) ∧ (¬ (0 : Int) = 0 → B)) (((0 : Int) = 0 → A) ∧ (¬ (0 : Int) = 0 → B)) (((1 : Int) = 0 → A) ∧ (¬ (1 : Int) = 0 → B)) mp at_ k tr n2 x) i (vPl at_ i) (vTt mp tr i) mp at_ tr n3 x) := by
          intro hg
          refine ⟨by omega, fun _ e1 => ?_⟩
          subst e1
          refine ih3 (by omega) ⟨by omega, fun j' a b => ?_⟩
          by_cases hj' : j' = j
          · subst hj'; exact hg
          · exact hJ j' a (by omega)
        have htj := ht (j / 2) (by omega) (by omega)
        refine ⟨fun q2 => go (fun z => by omega), fun q2 => ⟨hj, ?_⟩⟩
        unfold wpX54_placeOf wpX54_templateOf
        refine ⟨by omega, fun e1 => ⟨by omega, by omega, fun e2 => go (fun _ _ => e2), fun e2 => ?_⟩, fun e1 => go (fun _ z => absurd z e1)⟩
        exact no (fun hg => e2 ((hg.2 i hi (by omega)).2 j hj (by omega) (by omega) e1))
    refine ⟨fun q2 => inner (fun z => by omega), fun q2 => ⟨by omega, fun e1 => inner (fun _ => e1), fun e1 => ?_⟩⟩
    exact no (fun hg => e1 ((hg.2 i hi (by omega)).1 (by omega)))
  · have htk := ht k hk (by omega)
    refine ⟨by omega, by omega, by omega, fun e => ⟨by omega, fun _ e1 => ?_⟩, fun e => no (fun hg => e (hg.1 k hk (by omega)))⟩
    subst e1
    refine ih (by omega) ⟨by omega, fun j a b => ?_⟩
    by_cases hj : j = k
    · subst hj; exact e
    · exact hK j a (by omega)
/-- one row serves two atoms -/
def vOne (ky mp at_ tr : Int → Int) (i j : Int) : Prop := mp (6 * tr j) = mp (6 * tr i) ∧ ∃ p q, (0 ≤ p ∧ p < 2) ∧ (0 ≤ q ∧ q < 2) ∧ ky (3 * mp (6 * tr i) + vCo mp (tr i) p) ≠ 0 ∧ vCo mp (tr j) q = vCo mp (tr i) p ∧ at_ (3 * i + 1 + p) = at_ (3 * j + 1 + q)
theorem T54_areOneB {A B : Prop} {ky mp at_ tr : Int → Int} {i j : Int} (hi : 0 ≤ i ∧ i < 4) (hj : 0 ≤ j ∧ j < 4) (hm : ∀ k, (k = i ∨ k = j) → (0 ≤ tr k ∧ tr k < 12) ∧ (0 ≤ mp (6 * tr k) ∧ mp (6 * tr k) < 4) ∧ ∀ p, 0 ≤ p → p < 2 → 0 ≤ vCo mp (tr k) p ∧ vCo mp (tr k) p < 3) (h1 : vOne ky mp at_ tr i j → B) (h0 : ¬ vOne ky mp at_ tr i j → A) : wpX54_areOne (fun r => (r = 0 → A) ∧ (¬ r = 0 → B)) ky mp at_ tr i j := by
  obtain ⟨a1, a2, a3⟩ := hm i (Or.inl rfl)
  obtain ⟨b1, b2, b3⟩ := hm j (Or.inr rfl)
  unfold wpX54_areOne
  refine ⟨hi, by omega, fun _ e1 => ?_⟩
  subst e1
  refine ⟨hj, by omega, fun e => ?_, fun e => ⟨fun _ => h0 (fun q => e q.1), fun q => absurd rfl q⟩⟩
  refine zl1 _ (fun k => 0 ≤ k ∧ ∀ w, 0 ≤ w → w < k → ¬ (ky (3 * mp (6 * tr i) + vCo mp (tr i) (w / 2)) ≠ 0 ∧ vCo mp (tr j) (w % 2) = vCo mp (tr i) (w / 2) ∧ at_ (3 * i + 1 + w / 2) = at_ (3 * j + 1 + w % 2))) 4 ?_ ⟨by omega, by omega⟩ (by omega)
  intro n k ⟨hk, hK⟩ hN ih
  rw [wX54_areOne_38]
  refine ⟨fun q => ⟨fun _ => h0 ?_, fun q => absurd rfl q⟩, fun q => ⟨hk, fun _ e1 _ e2 => ?_⟩⟩
  · rintro ⟨-, p, w, hp, hw, z1, z2, z3⟩
    have := hK (2 * p + w) (by omega) (by omega)
    rw [show (2 * p + w) / 2 = p by omega, show (2 * p + w) % 2 = w by omega] at this
    exact this ⟨z1, z2, z3⟩
  · subst e1 e2
    have go : ¬ (ky (3 * mp (6 * tr i) + vCo mp (tr i) (k / 2)) ≠ 0 ∧ vCo mp (tr j) (k % 2) = vCo mp (tr i) (k / 2) ∧ at_ (3 * i + 1 + k / 2) = at_ (3 * j + 1 + k % 2)) → (zR (k + 1) ∧ ∀ x : Int, x = k + 1 → wX54_areOne_38 (((1 : Int) = 0 → A) ∧ (¬ (1 : Int) = 0 → B)) (((0 : Int) = 0 → A) ∧ (¬ (0 : Int) = 0 → B)) i j (mp (6 * tr i)) ky mp at_ tr n x) := by
      intro hn
      refine ⟨by omega, fun _ e1 => ?_⟩
      subst e1
      refine ih (by omega) ⟨by omega, fun w a b => ?_⟩
      by_cases hw : w = k
      · subst hw; exact hn
      · exact hK w a (by omega)
    have c1 := a3 (k / 2) (by omega) (by omega)
    have c2 := b3 (k % 2) (by omega) (by omega)
    unfold vCo at *
    unfold wpX54_columnOf wpX54_placeOf
    refine ⟨hi, by omega, by omega, fun z => go (fun y => y.1 z), fun z => ⟨hj, by omega, fun z2 => ⟨by omega, by omega, fun z3 => ⟨fun q => absurd q (by decide), fun _ => h1 ?_⟩, fun z3 => go (fun y => z3 y.2.2)⟩, fun z2 => go (fun y => z2 y.2.1)⟩⟩
    exact ⟨e, k / 2, k % 2, by omega, by omega, z, z2, z3⟩
/-- slots: of the first atom of one row, or a new one; how many -/
noncomputable def vSl (one : Int → Int → Prop) : Nat → (Int → Int) × Int
  | 0 => (fun _ => 0, 0)
  | k + 1 => if fstI (fun j => one j k) k < k then (updI (vSl one k).1 k ((vSl one k).1 (fstI (fun j => one j k) k)), (vSl one k).2) else (updI (vSl one k).1 k (vSl one k).2, (vSl one k).2 + 1)
theorem vSl_b (one : Int → Int → Prop) : ∀ k : Nat, (0 ≤ (vSl one k).2 ∧ (vSl one k).2 ≤ k) ∧ ∀ j : Int, 0 ≤ j → j < k → 0 ≤ (vSl one k).1 j ∧ (vSl one k).1 j < (vSl one k).2
  | 0 => ⟨⟨Int.le_refl 0, Int.le_refl 0⟩, fun j a b => by omega⟩
  | k + 1 => by
    obtain ⟨h1, h2⟩ := vSl_b one k
    have hf := (fstI_s (fun j => one j k) k).1
    unfold vSl
    by_cases h : fstI (fun j => one j k) k < k
    · rw [if_pos h]
      dsimp only
      refine ⟨by omega, fun j a b => ?_⟩
      by_cases hj : j = k
      · subst hj; rw [updI_s]; exact h2 _ hf.1 h
      · rw [updI_n hj]; exact h2 j a (by omega)
    · rw [if_neg h]
      dsimp only
      refine ⟨by omega, fun j a b => ?_⟩
      by_cases hj : j = k
      · subst hj; rw [updI_s]; omega
      · rw [updI_n hj]; have := h2 j a (by omega); omega
/-- what lies at a union's place: mappings, slots, how many -/
def uAt (f : Int → Int) (u n : Int) (tr : Int → Int) (sl : (Int → Int) × Int) : Prop := (∀ k, 0 ≤ k → k < n → f (9 * u + k) = tr k ∧ f (9 * u + 4 + k) = sl.1 k) ∧ f (9 * u + 8) = sl.2
theorem T54_keep {n : Nat} (hn : n ≤ 4) {post : (Int → Int) → Int → Prop} {ky mp at_ f tr : Int → Int} {u : Int} (hu : 0 ≤ u ∧ u < 150) (hm : ∀ k : Int, 0 ≤ k → k < n → (0 ≤ tr k ∧ tr k < 12) ∧ (0 ≤ mp (6 * tr k) ∧ mp (6 * tr k) < 4) ∧ ∀ p, 0 ≤ p → p < 2 → 0 ≤ vCo mp (tr k) p ∧ vCo mp (tr k) p < 3)
    (hp : ∀ f', (∀ j, j < 9 * u → f' j = f j) → uAt f' u n tr (vSl (vOne ky mp at_ tr) n) → post f' (u + 1)) : wpX54_keep post ky mp at_ n f u tr := by
  unfold wpX54_keep
  refine ⟨by omega, fun _ e1 => ?_⟩
  subst e1
  refine wl3 (fun q x2 x3 g => wX54_keep_12 _ (9 * u) ky mp at_ n tr q x2 x3 g) (fun x2 x3 g => (0 ≤ x3 ∧ x3 ≤ n) ∧ x2 = (vSl (vOne ky mp at_ tr) x3.toNat).2 ∧ (∀ j, j < 9 * u → g j = f j) ∧ ∀ k, 0 ≤ k → k < x3 → g (9 * u + k) = tr k ∧ g (9 * u + 4 + k) = (vSl (vOne ky mp at_ tr) x3.toNat).1 k) (fun x2 x3 g => (n - x3).toNat) ?_ 0 0 f ⟨by omega, rfl, fun _ _ => rfl, fun k a b => by omega⟩
  rintro x2 x3 g ⟨h3, e2, hg, hk⟩ q ih
  rw [wX54_keep_12]
  refine ⟨fun z => ⟨by omega, fun _ e1 => ?_⟩, fun z => ⟨by omega, fun _ e1 => ⟨by omega, fun _ e4 => ?_⟩⟩⟩
  · subst e1
    have : x3 = n := by omega
    subst this
    refine ⟨by omega, fun _ e1 => ?_⟩
    subst e1
    rw [Int.toNat_natCast] at e2 hk
    refine hp _ (fun j hj => by rw [updI_n (by omega)]; exact hg j hj) ⟨fun k a b => ?_, ?_⟩
    · rw [updI_n (by omega), updI_n (by omega)]; exact hk k a b
    · rw [updI_s]; exact e2
  · subst e1 e4
    obtain ⟨m, rfl⟩ : ∃ m : Nat, x3 = m := ⟨x3.toNat, by omega⟩
    rw [Int.toNat_natCast] at e2 hk
    have hs := fstI_s (fun j => vOne ky mp at_ tr j m) m
    have hb := vSl_b (vOne ky mp at_ tr) m
    refine wl2 (fun q x4 x5 => wX54_keep_40 _ (9 * u) m ky mp at_ _ tr q x4 x5) (fun x4 x5 => (0 ≤ x5 ∧ x5 ≤ m) ∧ ((x4 = -1 ∧ ∀ j, 0 ≤ j → j < x5 → ¬ vOne ky mp at_ tr j m) ∨ (fstI (fun j => vOne ky mp at_ tr j m) m < m ∧ x4 = (vSl (vOne ky mp at_ tr) m).1 (fstI (fun j => vOne ky mp at_ tr j m) m)))) (fun x4 x5 => (m - x5).toNat) ?_ (-1) 0 ⟨by omega, Or.inl ⟨rfl, fun j a b => by omega⟩⟩
    rintro x4 x5 ⟨h5, hI⟩ q2 ih2
    rw [wX54_keep_40]
    have en : ((m : Int) + 1).toNat = m + 1 := by omega
    have fin : (x4 < 0 → x5 = m) → ((0 ≤ x4 → (zR (9 * u + 4 + m) ∧ wX54_keep_104 (wX54_keep_12 (fun x2_50 f_unions_51 => (0 ≤ (9 * u + 8) ∧ (9 * u + 8) < 1350) ∧ (∀ f_unions_53 : Int → Int, f_unions_53 = updI f_unions_51 (9 * u + 8) x2_50 → (zR (u + 1) ∧ (∀ f_unionCount_59 : Int, f_unionCount_59 = u + 1 → (post f_unions_53 f_unionCount_59))))) (9 * u) ky mp at_ n tr q) x2 m x4 (9 * u + 4 + m) x4 (updI g (9 * u + m) (tr m)))) ∧ (¬ 0 ≤ x4 → (zR (9 * u + 4 + m) ∧ wX54_keep_104 (wX54_keep_12 (fun x2_50 f_unions_51 => (0 ≤ (9 * u + 8) ∧ (9 * u + 8) < 1350) ∧ (∀ f_unions_53 : Int → Int, f_unions_53 = updI f_unions_51 (9 * u + 8) x2_50 → (zR (u + 1) ∧ (∀ f_unionCount_59 : Int, f_unionCount_59 = u + 1 → (post f_unions_53 f_unionCount_59))))) (9 * u) ky mp at_ n tr q) x2 m x4 (9 * u + 4 + m) x2 (updI g (9 * u + m) (tr m))))) := by
      intro hx
      refine ⟨fun z4 => ⟨by omega, ?_⟩, fun z4 => ⟨by omega, ?_⟩⟩
      · have ⟨l1, l2⟩ : fstI (fun j => vOne ky mp at_ tr j m) m < m ∧ x4 = (vSl (vOne ky mp at_ tr) m).1 (fstI (fun j => vOne ky mp at_ tr j m) m) := by
          rcases hI with hI | hI
          · omega
          · exact hI
        unfold wX54_keep_104
        refine ⟨by omega, fun _ e1 => ⟨fun _ => ⟨by omega, fun _ e5 => ⟨by omega, fun _ e6 => ?_⟩⟩, fun q => absurd z4 q⟩⟩
        subst e1 e5 e6
        refine ih _ _ _ ⟨by omega, ?_, fun j hj => ?_, fun k a b => ?_⟩ (by omega)
        · rw [en, vSl, if_pos l1, e2]; omega
        · rw [updI_n (by omega), updI_n (by omega)]; exact hg j hj
        · rw [en, vSl, if_pos l1]
          dsimp only
          by_cases hk2 : k = m
          · subst hk2
            rw [updI_n (by omega), updI_s, updI_s, updI_s]
            exact ⟨rfl, l2⟩
          · have := hk k a (by omega)
            rw [updI_n (by omega), updI_n (by omega), updI_n (by omega), updI_n (by omega), updI_n hk2]
            exact this
      · have l1 : ¬ fstI (fun j => vOne ky mp at_ tr j m) m < m := by
          rcases hI with hI | hI
          · intro l
            have hx5 := hx (by omega)
            exact hI.2 _ hs.1.1 (by omega) (hs.2.1 l)
          · have := hb.2 _ hs.1.1 hI.1; omega
        unfold wX54_keep_104
        refine ⟨by omega, fun _ e1 => ⟨fun q => absurd q z4, fun _ => ⟨by omega, fun _ e5 => ⟨by omega, fun _ e6 => ?_⟩⟩⟩⟩
        subst e1 e5 e6
        refine ih _ _ _ ⟨by omega, ?_, fun j hj => ?_, fun k a b => ?_⟩ (by omega)
        · rw [en, vSl, if_neg l1, e2]
        · rw [updI_n (by omega), updI_n (by omega)]; exact hg j hj
        · rw [en, vSl, if_neg l1]
          dsimp only
          by_cases hk2 : k = m
          · subst hk2
            rw [updI_n (by omega), updI_s, updI_s, updI_s]
            exact ⟨rfl, e2⟩
          · have := hk k a (by omega)
            rw [updI_n (by omega), updI_n (by omega), updI_n (by omega), updI_n (by omega), updI_n hk2]
            exact this
    refine ⟨fun z5 => fin (fun _ => by omega), fun z5 => ⟨fun z4 => fin (fun y => by omega), fun z4 => ?_⟩⟩
    have hI2 : ∀ j, 0 ≤ j → j < x5 → ¬ vOne ky mp at_ tr j m := by
      rcases hI with hI | hI
      · exact hI.2
      · have := hb.2 _ hs.1.1 hI.1; omega
    refine T54_areOneB (by omega) (by omega) (fun k hk0 => hm k (by omega) (by omega)) (fun h => ⟨by omega, fun _ e1 => ⟨by omega, fun _ e5 => ?_⟩⟩) (fun h => ⟨by omega, fun _ e5 => ?_⟩)
    · subst e1 e5
      have ef : fstI (fun j => vOne ky mp at_ tr j m) m = x5 := fstI_u h5.1 h5.2 (fun _ => h) hI2
      refine ih2 _ _ ⟨by omega, Or.inr ⟨by omega, ?_⟩⟩ (by omega)
      rw [updI_n (by omega), (hk x5 h5.1 (by omega)).2, ef]
    · subst e5
      refine ih2 _ _ ⟨by omega, Or.inl ⟨rfl, fun j a b => ?_⟩⟩ (by omega)
      by_cases hj : j = x5
      · subst hj; exact h
      · exact hI2 j a (by omega)

/-! VirtualRewriteModel (X54): find, ready, what is told of unions -/
/-- the choice with a number is good -/
def vG (mp at_ : Int → Int) (M n i : Nat) : Prop := vGood mp at_ n (dgt M n i)
noncomputable def vSlU (ky mp at_ : Int → Int) (M n i : Nat) : (Int → Int) × Int := vSl (vOne ky mp at_ (dgt M n i)) n
theorem vOne_c {ky mp at_ tr tr' : Int → Int} {i j : Int} (hi : tr i = tr' i) (hj : tr j = tr' j) : vOne ky mp at_ tr i j ↔ vOne ky mp at_ tr' i j := by unfold vOne; rw [hi, hj]
theorem fstI_c {p q : Int → Prop} : ∀ {n : Nat}, (∀ j : Int, 0 ≤ j → j < n → (p j ↔ q j)) → fstI p n = fstI q n
  | 0, _ => rfl
  | n + 1, h => by unfold fstI; rw [fstI_c (n := n) (fun j a b => h j a (by omega)), pif_c (h n (by omega) (by omega))]
theorem vSl_c {one one' : Int → Int → Prop} : ∀ {n : Nat}, (∀ i j : Int, 0 ≤ i → i < j → j < n → (one i j ↔ one' i j)) → vSl one n = vSl one' n
  | 0, _ => rfl
  | k + 1, h => by
    unfold vSl
    rw [vSl_c (n := k) (fun i j a b c => h i j a b (by omega)), fstI_c (p := fun j => one j k) (q := fun j => one' j k) (fun j a b => h j k a b (by omega))]
/-- unions so far: those of the good choices below i -/
def vUs (ky mp at_ : Int → Int) (M n i : Nat) (f : Int → Int) : Prop := ∀ u : Nat, u < cntP (vG mp at_ M n) i → uAt f u n (dgt M n (nthP (vG mp at_ M n) u)) (vSlU ky mp at_ M n (nthP (vG mp at_ M n) u))
theorem uAt_c {f f' : Int → Int} {u n : Int} {tr : Int → Int} {sl : (Int → Int) × Int} (hn : n ≤ 4) (h : ∀ j, 9 * u ≤ j → j < 9 * u + 9 → f' j = f j) (hu : uAt f u n tr sl) : uAt f' u n tr sl :=
  ⟨fun k a b => by rw [h _ (by omega) (by omega), h _ (by omega) (by omega)]; exact hu.1 k a b, by rw [h _ (by omega) (by omega)]; exact hu.2⟩
/-- what mappings and atoms are -/
def vQ (mp at_ : Int → Int) (M n : Nat) : Prop := M ≤ 12 ∧ n ≤ 4 ∧ ∀ m : Int, 0 ≤ m → m < M → (0 ≤ mp (6 * m) ∧ mp (6 * m) < 4) ∧ ∀ p, 0 ≤ p → p < 2 → (0 ≤ vTp mp m p ∧ vTp mp m p < 6) ∧ 0 ≤ vCo mp m p ∧ vCo mp m p < 3
theorem T54_find {ky mp at_ f tr0 : Int → Int} {M n : Nat} (hQ : vQ mp at_ M n) (hn : 0 < n) {post : (Int → Int) → Int → Int → (Int → Int) → Prop}
    (h0 : cntP (vG mp at_ M n) (M ^ n) ≤ 150 → ∀ f' tr, vUs ky mp at_ M n (M ^ n) f' → post f' (cntP (vG mp at_ M n) (M ^ n)) 0 tr)
    (h1 : 150 < cntP (vG mp at_ M n) (M ^ n) → ∀ f' tr, post f' 150 1 tr) : wpX54_find post ky mp M at_ n f tr0 := by
  obtain ⟨hM, hn4, hm⟩ := hQ
  unfold wpX54_find
  refine zl2 _ (fun k g => 0 ≤ k ∧ ∀ j, 0 ≤ j → j < k → g j = 0) 4 ?_ ⟨by omega, fun j a b => by omega⟩ (by omega)
  rintro q k g ⟨hk, hg⟩ hN ih
  rw [wX54_find_12]
  refine ⟨fun z => ?_, fun z => ⟨by omega, fun _ e1 => ⟨by omega, fun _ e2 => ?_⟩⟩⟩
  · have main : ∀ (d : Nat) (b : Int) (i : Nat) (f : Int → Int) (tr : Int → Int), i + d = M ^ n → (b = 0 ∧ d = 0 ∨ b = 1 ∧ 0 < d ∧ 0 < M ∧ ag n tr (dgt M n i)) → cntP (vG mp at_ M n) i ≤ 150 → vUs ky mp at_ M n i f →
        wX54_find_43 (fun f_unions_24 f_unionCount_25 f_trial_26 => post f_unions_24 f_unionCount_25 1 f_trial_26) (fun f_unions_27 f_unionCount_28 f_trial_29 => post f_unions_27 f_unionCount_28 0 f_trial_29) ky mp M at_ n (d + 1) b f (cntP (vG mp at_ M n) i) tr := by
      intro d
      induction d with
      | zero =>
        intro b i f tr hi hb hc hU
        have : i = M ^ n := by omega
        subst this
        rw [wX54_find_43]
        refine ⟨fun _ => h0 hc f tr hU, fun y => ?_⟩
        rcases hb with hb | hb
        · exact absurd hb.1 y
        · omega
      | succ d ihd =>
        intro b i f tr hi hb hc hU
        obtain ⟨hb, hM0, ht⟩ : b = 1 ∧ 0 < M ∧ ag n tr (dgt M n i) := by
          rcases hb with hb | hb
          · omega
          · exact ⟨hb.1, hb.2.2⟩
        have hg' : vGood mp at_ n tr ↔ vG mp at_ M n i := vGood_c ht
        have htr : ∀ k : Int, 0 ≤ k → k < n → 0 ≤ tr k ∧ tr k < M := fun k a b => by rw [ht k a b]; exact dgt_b hM0 n i k
        have nx : ∀ (f' : Int → Int), cntP (vG mp at_ M n) (i + 1) ≤ 150 → vUs ky mp at_ M n (i + 1) f' → wpX54_next (fun r tr' => wX54_find_43 (fun f_unions_24 f_unionCount_25 f_trial_26 => post f_unions_24 f_unionCount_25 1 f_trial_26) (fun f_unions_27 f_unionCount_28 f_trial_29 => post f_unions_27 f_unionCount_28 0 f_trial_29) ky mp M at_ n (d + 1) r f' (cntP (vG mp at_ M n) (i + 1)) tr') M n tr := by
          intro f' hc' hU'
          refine T54_next hM0 hM hn4 ht (by omega) (fun hlt tr' ha => ?_) (fun he tr' => ?_)
          · exact ihd 1 (i + 1) f' tr' (by omega) (Or.inr ⟨rfl, by omega, hM0, ha⟩) hc' hU'
          · exact ihd 0 (i + 1) f' tr' (by omega) (Or.inl ⟨rfl, by omega⟩) hc' hU'
        rw [wX54_find_43]
        refine ⟨fun y => by omega, fun _ => ?_⟩
        refine T54_isGoodB (by omega) (fun k a b => by have := htr k a b; omega) (fun hg => ⟨fun e => ?_, fun e => ?_⟩) (fun hg => ?_)
        · have hG := hg'.mp hg
          have e2 : cntP (vG mp at_ M n) i = 150 := by omega
          have := cntP_m (vG mp at_ M n) (show i + 1 ≤ M ^ n by omega)
          rw [cntP_t hG] at this
          rw [e]
          exact h1 (by omega) f tr
        · have hG := hg'.mp hg
          have e3 := cntP_t hG
          have hU2 : ∀ f', (∀ j, j < 9 * (cntP (vG mp at_ M n) i : Int) → f' j = f j) → uAt f' (cntP (vG mp at_ M n) i : Nat) n tr (vSl (vOne ky mp at_ tr) n) → vUs ky mp at_ M n (i + 1) f' := by
            intro f' hf' hu' u hlt
            by_cases hu2 : u = cntP (vG mp at_ M n) i
            · subst hu2
              rw [nthP_of hG]
              refine ⟨fun k a b => ?_, ?_⟩
              · have := hu'.1 k a b
                rw [← ht k a b]
                unfold vSlU
                rw [← vSl_c (one := vOne ky mp at_ tr) (fun x y a b c => vOne_c (ht x a (by omega)) (ht y (by omega) c))]
                exact this
              · unfold vSlU
                rw [← vSl_c (one := vOne ky mp at_ tr) (fun x y a b c => vOne_c (ht x a (by omega)) (ht y (by omega) c))]
                exact hu'.2
            · have hlt2 : u < cntP (vG mp at_ M n) i := by omega
              exact uAt_c (by omega) (fun j a b => hf' j (by omega)) (hU u hlt2)
          refine T54_keep hn4 ⟨by omega, by omega⟩ (fun k a b => ?_) (fun f' hf' hu' => ?_)
          · have h1 := htr k a b
            obtain ⟨h2, h3⟩ := hm (tr k) h1.1 h1.2
            exact ⟨by omega, h2, fun p c d => (h3 p c d).2⟩
          · have := nx f' (by omega) (hU2 f' hf' hu')
            rw [e3] at this
            exact this
        · have hG : ¬ vG mp at_ M n i := fun q => hg (hg'.mpr q)
          have e3 := cntP_f hG
          have := nx f (by omega) (fun u hlt => hU u (by omega))
          rw [e3] at this
          exact this
    have hz : ∀ f, vUs ky mp at_ M n 0 f := fun f u hu => by simp [cntP] at hu
    refine ⟨fun y => ?_, fun y => ?_⟩
    · have e : M = 0 := by omega
      have e2 : M ^ n = 0 := by rw [e]; exact Nat.zero_pow hn
      exact ⟨_, main 0 0 0 f g (by omega) (Or.inl ⟨rfl, rfl⟩) (by simp [cntP]) (hz f)⟩
    · have hp : 0 < M ^ n := Nat.pow_pos (by omega)
      exact ⟨_, main (M ^ n) 1 0 f g (by omega) (Or.inr ⟨rfl, hp, by omega, fun k a b => by rw [dgt_0, hg k a (by omega)]⟩) (by simp [cntP]) (hz f)⟩
  · subst e1 e2
    refine ih _ (by omega) ⟨by omega, fun j a b => ?_⟩
    by_cases hj : j = k
    · subst hj; exact updI_s
    · rw [updI_n hj]; exact hg j a (by omega)
/-- BAD, LARGE, or 1 -/
noncomputable def vRdy (mp at_ : Int → Int) (M n : Nat) : Int := if n = 0 then -1 else if 150 < cntP (vG mp at_ M n) (M ^ n) then -3 else 1
noncomputable def vUc (mp at_ : Int → Int) (M n : Nat) : Nat := cntP (vG mp at_ M n) (M ^ n)
theorem T54_ready {ky mp at_ f tr0 : Int → Int} {uc lg : Int} {M n : Nat} (hQ : vQ mp at_ M n) {post : Int → Int → (Int → Int) → Int → Int → (Int → Int) → Prop}
    (h0 : vRdy mp at_ M n < 0 → ∀ f' uc' lg' tr, (lg' = 0 ∨ lg' = 1 ∨ lg' = lg) → post (vRdy mp at_ M n) 0 f' uc' lg' tr)
    (h1 : vRdy mp at_ M n = 1 → 0 < n → ∀ f' tr, vUs ky mp at_ M n (M ^ n) f' → vUc mp at_ M n ≤ 150 → post 1 0 f' (vUc mp at_ M n) 0 tr) : wpX54_ready post ky mp M at_ n f uc lg tr0 := by
  unfold wpX54_ready
  refine ⟨fun e => ?_, fun e => ?_⟩
  · have e0 : vRdy mp at_ M n = -1 := by unfold vRdy; rw [if_pos (by omega)]
    rw [e0] at h0
    exact h0 (by decide) f uc lg tr0 (by simp)
  · refine T54_find hQ (by omega) (fun hc f' tr hU => ⟨fun _ => ?_, fun y => absurd rfl y⟩) (fun hc f' tr => ⟨fun y => absurd y (by decide), fun _ => ?_⟩)
    · exact h1 (by unfold vRdy; rw [if_neg (by omega), if_neg (by omega)]) (by omega) f' tr hU hc
    · have e0 : vRdy mp at_ M n = -3 := by unfold vRdy; rw [if_neg (by omega), if_pos hc]
      rw [e0] at h0
      exact h0 (by decide) f' 150 1 tr (by simp)

/-! VirtualRewriteModel (X54): unions told; rows that go together -/
theorem T54_unions {ky mp at_ f tr0 : Int → Int} {uc lg : Int} {M n : Nat} (hQ : vQ mp at_ M n) {post : Int → Int → (Int → Int) → Int → Int → (Int → Int) → Prop}
    (h0 : ∀ f' uc' lg' tr, (lg' = 0 ∨ lg' = 1 ∨ lg' = lg) → post (if vRdy mp at_ M n < 0 then vRdy mp at_ M n else vUc mp at_ M n) 0 f' uc' lg' tr) : wpX54_unions post ky mp M at_ n f uc lg tr0 := by
  unfold wpX54_unions
  refine T54_ready hQ (fun hr f' uc' lg' tr hl => ⟨fun q => by omega, fun _ => ?_⟩) (fun hr hn f' tr hU hc => ⟨fun _ => ?_, fun q => absurd (by decide) q⟩)
  · rw [if_pos hr] at h0; exact h0 f' uc' lg' tr hl
  · rw [if_neg (by omega)] at h0; exact h0 f' _ 0 tr (by simp)
/-- the mappings and slots of a union -/
noncomputable def uTr (mp at_ : Int → Int) (M n : Nat) (u : Int) : Int → Int := dgt M n (nthP (vG mp at_ M n) u.toNat)
noncomputable def uSl (ky mp at_ : Int → Int) (M n : Nat) (u : Int) : (Int → Int) × Int := vSlU ky mp at_ M n (nthP (vG mp at_ M n) u.toNat)
theorem vUs.at {ky mp at_ f : Int → Int} {M n : Nat} (h : vUs ky mp at_ M n (M ^ n) f) {u : Int} (h0 : 0 ≤ u) (h1 : u < vUc mp at_ M n) : uAt f u n (uTr mp at_ M n u) (uSl ky mp at_ M n u) := by
  have := h u.toNat (by unfold vUc at h1; omega)
  rw [Int.toNat_of_nonneg h0] at this
  exact this
noncomputable def vUnion (ky mp at_ : Int → Int) (M n : Nat) (i w : Int) : Int :=
  if vRdy mp at_ M n < 0 then vRdy mp at_ M n else if (0 ≤ i ∧ i < vUc mp at_ M n) ∧ (0 ≤ w ∧ w < 9) ∧ ¬ (w < 8 ∧ (n : Int) ≤ w % 4) then (if w < 4 then uTr mp at_ M n i w else if w < 8 then (uSl ky mp at_ M n i).1 (w - 4) else (uSl ky mp at_ M n i).2) else -1
theorem T54_union {ky mp at_ f tr0 : Int → Int} {uc lg i w : Int} {M n : Nat} (hQ : vQ mp at_ M n) {post : Int → Int → (Int → Int) → Int → Int → (Int → Int) → Prop}
    (h0 : ∀ f' uc' lg' tr, (lg' = 0 ∨ lg' = 1 ∨ lg' = lg) → post (vUnion ky mp at_ M n i w) 0 f' uc' lg' tr) : wpX54_union post ky mp M at_ n f uc lg tr0 i w := by
  unfold wpX54_union
  unfold vUnion at h0
  refine T54_ready hQ (fun hr f' uc' lg' tr hl => ⟨fun q => by omega, fun _ => ?_⟩) (fun hr hn f' tr hU hc => ⟨fun _ => ?_, fun q => absurd (by decide) q⟩)
  · rw [if_pos hr] at h0; exact h0 f' uc' lg' tr hl
  · rw [if_neg (by omega)] at h0
    have h4 : n ≤ 4 := hQ.2.1
    refine T54_isInB (fun i1 i2 => T54_isInB (fun w1 w2 => ?_) (fun h => ?_)) (fun h => ?_)
    · have hu := hU.at i1 i2
      refine ⟨fun q => ⟨by omega, ?_⟩, fun q => ⟨by omega, fun z => ⟨by omega, ?_⟩, fun z => ?_⟩⟩
      · have e : w = 8 := by omega
        subst e
        rw [if_pos ⟨⟨i1, i2⟩, ⟨w1, w2⟩, by omega⟩, if_neg (by omega), if_neg (by omega), ← hu.2] at h0
        exact h0 f' _ 0 tr (by simp)
      · rw [if_pos ⟨⟨i1, i2⟩, ⟨w1, w2⟩, by omega⟩] at h0
        by_cases hw : w < 4
        · rw [if_pos hw, ← (hu.1 w w1 (by omega)).1] at h0
          exact h0 f' _ 0 tr (by simp)
        · rw [if_neg hw, if_pos (by omega), ← (hu.1 (w - 4) (by omega) (by omega)).2, show 9 * i + 4 + (w - 4) = 9 * i + w by omega] at h0
          exact h0 f' _ 0 tr (by simp)
      · rw [if_neg (by omega)] at h0
        exact h0 f' _ 0 tr (by simp)
    · rw [if_neg (by omega)] at h0
      exact h0 f' _ 0 tr (by simp)
    · rw [if_neg (by omega)] at h0
      exact h0 f' _ 0 tr (by simp)
def uFirst (sl : Int → Int) (k : Int) : Prop := ∀ j, 0 ≤ j → j < k → sl j ≠ sl k
theorem T54_isFirstB {A B : Prop} {f tr : Int → Int} {sl : (Int → Int) × Int} {u k n : Int} (hu : uAt f u n tr sl) (hn : n ≤ 4) (hu2 : 0 ≤ u ∧ u < 150) (hk : 0 ≤ k ∧ k < n) (h1 : uFirst sl.1 k → B) (h0 : ¬ uFirst sl.1 k → A) : wpX54_isFirst (fun r => (r = 0 → A) ∧ (¬ r = 0 → B)) f u k := by
  unfold wpX54_isFirst
  refine zl1 _ (fun i => 0 ≤ i ∧ ∀ j, 0 ≤ j → j < i → sl.1 j ≠ sl.1 k) k ?_ ⟨by omega, by omega⟩ hk.1
  intro q i ⟨hi, hI⟩ hN ih
  rw [wX54_isFirst_2]
  refine ⟨fun z => ⟨fun z => absurd z (by decide), fun _ => h1 (fun j a b => hI j a (by omega))⟩, fun z => ⟨by omega, by omega, fun e => ⟨fun _ => h0 (fun hf => ?_), fun z => absurd rfl z⟩, fun e => ⟨by omega, fun _ e1 => ?_⟩⟩⟩
  · rw [(hu.1 i hi (by omega)).2, (hu.1 k hk.1 hk.2).2] at e
    exact hf i hi (by omega) e
  · subst e1
    rw [(hu.1 i hi (by omega)).2, (hu.1 k hk.1 hk.2).2] at e
    refine ih (by omega) ⟨by omega, fun j a b => ?_⟩
    by_cases hj : j = i
    · subst hj; exact e
    · exact hI j a (by omega)
noncomputable def vEs (sz mp tr sl : Int → Int) : Nat → Int
  | 0 => 1
  | k + 1 => pif (uFirst sl k) (vEs sz mp tr sl k * sz (mp (6 * tr k))) (vEs sz mp tr sl k)
noncomputable def vEst (sz ky mp at_ : Int → Int) (M n : Nat) (i : Int) : Int :=
  if vRdy mp at_ M n < 0 then vRdy mp at_ M n else if 0 ≤ i ∧ i < vUc mp at_ M n then vEs sz mp (uTr mp at_ M n i) (uSl ky mp at_ M n i).1 n else -1
theorem uTr_b {mp at_ : Int → Int} {M n : Nat} {u : Int} (h0 : 0 ≤ u) (h1 : u < vUc mp at_ M n) (hn : 0 < n) : ∀ k, 0 ≤ uTr mp at_ M n u k ∧ uTr mp at_ M n u k < M := by
  intro k
  have hM : 0 < M := by
    rcases Nat.eq_zero_or_pos M with e | e
    · subst e
      unfold vUc at h1
      rw [Nat.zero_pow hn] at h1
      simp only [cntP] at h1
      omega
    · exact e
  exact dgt_b hM n _ k
theorem T54_estimate {sz ky mp at_ f tr0 : Int → Int} {uc lg i : Int} {M n : Nat} (hQ : vQ mp at_ M n) (hs : ∀ t, 0 ≤ t → t < 4 → 0 ≤ sz t ∧ sz t ≤ 20) {post : Int → Int → (Int → Int) → Int → Int → (Int → Int) → Prop}
    (h0 : ∀ f' uc' lg' tr, (lg' = 0 ∨ lg' = 1 ∨ lg' = lg) → post (vEst sz ky mp at_ M n i) 0 f' uc' lg' tr) : wpX54_estimate post sz ky mp M at_ n f uc lg tr0 i := by
  unfold wpX54_estimate
  unfold vEst at h0
  have h4 : n ≤ 4 := hQ.2.1
  have h12 : M ≤ 12 := hQ.1
  refine T54_ready hQ (fun hr f' uc' lg' tr hl => ⟨fun q => by omega, fun _ => ?_⟩) (fun hr hn f' tr hU hc => ⟨fun _ => ?_, fun q => absurd (by decide) q⟩)
  · rw [if_pos hr] at h0; exact h0 f' uc' lg' tr hl
  · rw [if_neg (by omega)] at h0
    refine T54_isInB (fun i1 i2 => ?_) (fun h => ?_)
    · rw [if_pos ⟨i1, i2⟩] at h0
      have hu := hU.at i1 i2
      have hb := uTr_b i1 i2 hn
      refine wl2 (fun q x3 x4 => wX54_estimate_29 _ i sz mp n f' q x3 x4) (fun x3 x4 => (0 ≤ x4 ∧ x4 ≤ n) ∧ x3 = vEs sz mp (uTr mp at_ M n i) (uSl ky mp at_ M n i).1 x4.toNat ∧ (0 ≤ x3 ∧ x3 ≤ 20 ^ x4.toNat)) (fun x3 x4 => (n - x4).toNat) ?_ 1 0 ⟨by omega, rfl, by decide⟩
      rintro x3 x4 ⟨hk, e3, h3⟩ q ih
      rw [wX54_estimate_29]
      have hpow : (20 : Int) ^ x4.toNat ≤ 20 ^ 4 := by
        have : x4.toNat ≤ 4 := by omega
        generalize x4.toNat = y at this
        have : y = 0 ∨ y = 1 ∨ y = 2 ∨ y = 3 ∨ y = 4 := by omega
        rcases this with rfl | rfl | rfl | rfl | rfl <;> decide
      refine ⟨fun z => ?_, fun z => ?_⟩
      · have : x4 = n := by omega
        subst this
        rw [Int.toNat_natCast] at e3
        rw [e3]
        exact h0 f' _ 0 tr (by simp)
      · have en : (x4 + 1).toNat = x4.toNat + 1 := by omega
        have en2 : ((x4.toNat : Nat) : Int) = x4 := by omega
        refine T54_isFirstB hu (by omega) (by omega) (by omega) (fun hf => ?_) (fun hf => ⟨by omega, fun _ e1 => ?_⟩)
        · have ht := (hu.1 x4 hk.1 (by omega)).1
          have hbx := hb x4
          obtain ⟨m1, m2⟩ := hQ.2.2 _ hbx.1 hbx.2
          have hz := hs _ m1.1 m1.2
          rw [ht]
          have p1 : 0 ≤ x3 * sz (mp (6 * uTr mp at_ M n i x4)) := Int.mul_nonneg h3.1 hz.1
          have p2 : x3 * sz (mp (6 * uTr mp at_ M n i x4)) ≤ 20 ^ x4.toNat * 20 := Int.mul_le_mul h3.2 hz.2 hz.1 (by have := h3.1; omega)
          have p3 : (20 : Int) ^ 4 = 160000 := by decide
          refine ⟨by omega, by omega, m1, by omega, fun _ e1 => ⟨by omega, fun _ e2 => ?_⟩⟩
          subst e1 e2
          refine ih _ _ ⟨by omega, ?_, p1, ?_⟩ (by omega)
          · rw [en, vEs, en2, pif_t hf, e3]
          · rw [en, Int.pow_succ]; exact p2
        · subst e1
          refine ih _ _ ⟨by omega, ?_, h3.1, ?_⟩ (by omega)
          · rw [en, vEs, en2, pif_f hf, e3]
          · rw [en, Int.pow_succ]
            have : (0 : Int) ≤ 20 ^ x4.toNat := by omega
            omega
    · rw [if_neg h] at h0
      exact h0 f' _ 0 tr (by simp)
section
variable {c sz mp : Int → Int} {M n : Nat}
/-- the code at a place, by the rows at hand -/
def vCd (c mp tr rw_ : Int → Int) (i : Int) : Int := vCode c mp (tr (i / 2)) (rw_ (i / 2)) (i % 2)
theorem T54_codeAt {post : Int → Prop} {f tr : Int → Int} {sl : (Int → Int) × Int} {u k p : Int} {rw_ : Int → Int} (h : vOK c sz mp M) (hu : uAt f u n tr sl) (hn : n ≤ 4) (hu2 : 0 ≤ u ∧ u < 150) (hk : 0 ≤ k ∧ k < n) (ht : 0 ≤ tr k ∧ tr k < M) (hr : 0 ≤ rw_ k ∧ rw_ k < sz (mp (6 * tr k))) (h5 : 0 ≤ p ∧ p < 2) (hp : post (vCode c mp (tr k) (rw_ k) p)) : wpX54_codeAt post c mp f rw_ u k p := by
  unfold wpX54_codeAt
  rw [(hu.1 k hk.1 hk.2).1]
  exact ⟨by omega, by omega, T54_codeOf h ht.1 ht.2 hr.1 hr.2 h5.1 h5.2 hp⟩
/-- an atom's row goes with what is told, and with the rows before it -/
def vGo (c mp at_ sp : Int → Int) (sc : Int) (tr rw_ : Int → Int) (k : Int) : Prop := ∀ i, 2 * k ≤ i → i < 2 * k + 2 → (0 ≤ vPl at_ i → vPl at_ i = vCd c mp tr rw_ i) ∧ (vPl at_ i < 0 → (∀ j, 0 ≤ j → j < i → vPl at_ j = vPl at_ i → vCd c mp tr rw_ j = vCd c mp tr rw_ i) ∧ ∀ s, 0 ≤ s → s < sc → sp (3 * s) = -1 - vPl at_ i → sp (3 * s + 1) ≤ vCd c mp tr rw_ i % 10000 ∧ vCd c mp tr rw_ i % 10000 ≤ sp (3 * s + 2))
theorem T54_goesB {A B : Prop} {at_ sp f tr : Int → Int} {sc : Int} {sl : (Int → Int) × Int} {u k : Int} {rw_ : Int → Int} (h : vOK c sz mp M) (hu : uAt f u n tr sl) (hn : n ≤ 4) (hu2 : 0 ≤ u ∧ u < 150) (hk : 0 ≤ k ∧ k < n) (ht : ∀ k : Int, 0 ≤ k → k < n → 0 ≤ tr k ∧ tr k < M) (hr : ∀ j, 0 ≤ j → j ≤ k → 0 ≤ rw_ j ∧ rw_ j < sz (mp (6 * tr j))) (hs : 0 ≤ sc ∧ sc ≤ 4) (ha : ∀ i : Int, 0 ≤ i → i < 2 * n → -6 ≤ vPl at_ i)
    (h1 : vGo c mp at_ sp sc tr rw_ k → B) (h0 : ¬ vGo c mp at_ sp sc tr rw_ k → A) : wpX54_goes (fun r => (r = 0 → A) ∧ (¬ r = 0 → B)) c mp at_ sp sc f rw_ u k := by
  unfold wpX54_goes
  dsimp only
  have no : ¬ vGo c mp at_ sp sc tr rw_ k → (((0 : Int) = 0 → A) ∧ (¬ (0 : Int) = 0 → B)) := fun h => ⟨fun _ => h0 h, fun q => absurd rfl q⟩
  have yes : vGo c mp at_ sp sc tr rw_ k → (((1 : Int) = 0 → A) ∧ (¬ (1 : Int) = 0 → B)) := fun h => ⟨fun q => absurd q (by decide), fun _ => h1 h⟩
  generalize (((0 : Int) = 0 → A) ∧ (¬ (0 : Int) = 0 → B)) = N at no ⊢
  generalize (((1 : Int) = 0 → A) ∧ (¬ (1 : Int) = 0 → B)) = Y at yes ⊢
  refine zl1 _ (fun p => 0 ≤ p ∧ ∀ i, 2 * k ≤ i → i < 2 * k + p → (0 ≤ vPl at_ i → vPl at_ i = vCd c mp tr rw_ i) ∧ (vPl at_ i < 0 → (∀ j, 0 ≤ j → j < i → vPl at_ j = vPl at_ i → vCd c mp tr rw_ j = vCd c mp tr rw_ i) ∧ ∀ s, 0 ≤ s → s < sc → sp (3 * s) = -1 - vPl at_ i → sp (3 * s + 1) ≤ vCd c mp tr rw_ i % 10000 ∧ vCd c mp tr rw_ i % 10000 ≤ sp (3 * s + 2))) 2 ?_ ⟨by omega, fun i a b => by omega⟩ (by omega)
  intro q p ⟨hp, hP⟩ hN ih
  rw [wX54_goes_2]
  refine ⟨fun z => yes (fun i a b => hP i a (by omega)), fun z => ?_⟩
  have ei1 : (2 * k + p) / 2 = k := by omega
  have ei2 : (2 * k + p) % 2 = p := by omega
  have ep : at_ (3 * k + 1 + p) = vPl at_ (2 * k + p) := by unfold vPl; rw [ei1, ei2]
  have ec : vCode c mp (tr k) (rw_ k) p = vCd c mp tr rw_ (2 * k + p) := by unfold vCd; rw [ei1, ei2]
  have hcd : ∀ i, 0 ≤ i → i ≤ 2 * k + p → 0 ≤ vCd c mp tr rw_ i := by
    intro i a b
    have hr2 := hr (i / 2) (by omega) (by omega)
    have ht2 := ht (i / 2) (by omega) (by omega)
    exact (h.code ht2.1 ht2.2 hr2.1 hr2.2 (by omega) (by omega)).1
  unfold wpX54_placeOf
  refine ⟨by omega, T54_codeAt h hu hn hu2 hk (ht k hk.1 hk.2) (hr k hk.1 (by omega)) (by omega) ?_⟩
  rw [ep, ec]
  have next : ((0 ≤ vPl at_ (2 * k + p) → vPl at_ (2 * k + p) = vCd c mp tr rw_ (2 * k + p)) ∧ (vPl at_ (2 * k + p) < 0 → (∀ j, 0 ≤ j → j < 2 * k + p → vPl at_ j = vPl at_ (2 * k + p) → vCd c mp tr rw_ j = vCd c mp tr rw_ (2 * k + p)) ∧ ∀ s, 0 ≤ s → s < sc → sp (3 * s) = -1 - vPl at_ (2 * k + p) → sp (3 * s + 1) ≤ vCd c mp tr rw_ (2 * k + p) % 10000 ∧ vCd c mp tr rw_ (2 * k + p) % 10000 ≤ sp (3 * s + 2))) → (zR (p + 1) ∧ ∀ x : Int, x = p + 1 → wX54_goes_2 N N N Y u k c mp at_ sp sc f rw_ q x) := by
    intro hh
    refine ⟨by omega, fun _ e1 => ?_⟩
    subst e1
    refine ih (by omega) ⟨by omega, fun i a b => ?_⟩
    by_cases hi : i = 2 * k + p
    · subst hi; exact hh
    · exact hP i a (by omega)
  refine ⟨fun q1 => ?_, fun q1 => ⟨fun q2 => next ⟨fun _ => q2, fun q3 => absurd q3 q1⟩, fun q2 => no (fun hg => q2 ((hg (2 * k + p) (by omega) (by omega)).1 (by omega)))⟩⟩
  refine zl1 _ (fun j => 0 ≤ j ∧ ∀ j', 0 ≤ j' → j' < j → vPl at_ j' = vPl at_ (2 * k + p) → vCd c mp tr rw_ j' = vCd c mp tr rw_ (2 * k + p)) (2 * k + p) ?_ ⟨by omega, fun j' a b => by omega⟩ (by omega)
  intro q3 j ⟨hj, hJ⟩ hN3 ih3
  rw [wX54_goes_41]
  refine ⟨by omega, fun z => ?_, fun z => ⟨hj, ?_⟩⟩
  · refine zl1 _ (fun s => 0 ≤ s ∧ ∀ s', 0 ≤ s' → s' < s → sp (3 * s') = -1 - vPl at_ (2 * k + p) → sp (3 * s' + 1) ≤ vCd c mp tr rw_ (2 * k + p) % 10000 ∧ vCd c mp tr rw_ (2 * k + p) % 10000 ≤ sp (3 * s' + 2)) sc ?_ ⟨by omega, fun s' a b => by omega⟩ hs.1
    intro q4 s ⟨hs0, hS⟩ hN4 ih4
    rw [wX54_goes_97]
    have ha' := ha (2 * k + p) (by omega) (by omega)
    have hcp := hcd (2 * k + p) (by omega) (by omega)
    refine ⟨fun z4 => next ⟨fun z5 => by omega, fun _ => ⟨fun j' a b => hJ j' a (by omega), fun s' a b => hS s' a (by omega)⟩⟩, fun z4 => ⟨by omega, by omega, fun e1 => ⟨hcp, by omega, fun e2 => ?_, fun e2 => ⟨by omega, fun e3 => ⟨by omega, fun _ e5 => ?_⟩, fun e3 => ?_⟩⟩, fun e1 => ⟨by omega, fun _ e5 => ?_⟩⟩⟩
    · exact no (fun hg => by have := ((hg (2 * k + p) (by omega) (by omega)).2 q1).2 s hs0 (by omega) e1; omega)
    · subst e5
      refine ih4 (by omega) ⟨by omega, fun s' a b e6 => ?_⟩
      by_cases hs' : s' = s
      · subst hs'; omega
      · exact hS s' a (by omega) e6
    · exact no (fun hg => by have := ((hg (2 * k + p) (by omega) (by omega)).2 q1).2 s hs0 (by omega) e1; omega)
    · subst e5
      refine ih4 (by omega) ⟨by omega, fun s' a b e6 => ?_⟩
      by_cases hs' : s' = s
      · subst hs'; exact absurd e6 e1
      · exact hS s' a (by omega) e6
  · unfold wpX54_placeOf
    have go : (vPl at_ j = vPl at_ (2 * k + p) → vCd c mp tr rw_ j = vCd c mp tr rw_ (2 * k + p)) → (zR (j + 1) ∧ ∀ x : Int, x = j + 1 → wX54_goes_41 N (∃ fu, wX54_goes_97 N (zR (p + 1) ∧ ∀ x : Int, x = p + 1 → wX54_goes_2 N N N Y u k c mp at_ sp sc f rw_ q x) (vPl at_ (2 * k + p)) (vCd c mp tr rw_ (2 * k + p)) sp sc fu 0) u k p (vPl at_ (2 * k + p)) (vCd c mp tr rw_ (2 * k + p)) c mp at_ f rw_ q3 x) := by
      intro hh
      refine ⟨by omega, fun _ e1 => ?_⟩
      subst e1
      refine ih3 (by omega) ⟨by omega, fun j' a b => ?_⟩
      by_cases hj' : j' = j
      · subst hj'; exact hh
      · exact hJ j' a (by omega)
    have hr2 := hr (j / 2) (by omega) (by omega)
    have ht2 := ht (j / 2) (by omega) (by omega)
    refine ⟨by omega, fun e1 => T54_codeAt h hu hn hu2 (by omega) ht2 hr2 (by omega) ⟨fun e2 => go (fun _ => e2), fun e2 => ?_⟩, fun e1 => go (fun z => absurd z e1)⟩
    exact no (fun hg => e2 (((hg (2 * k + p) (by omega) (by omega)).2 q1).1 j hj (by omega) e1))
end

/-! VirtualRewrite: answers by their rows of six numbers, the least first; what a note does to them; the reference's note -/
abbrev VA : Type := Int × (Int → Int → Int) × (Int → Int) × (Int → Int) × (Int → Int) × Int
def vLt (a b : Int → Int) : Prop := ∃ v, (0 ≤ v ∧ v < 6) ∧ (∀ w, 0 ≤ w → w < v → a w = b w) ∧ a v < b v
def vE6 (a b : Int → Int) : Prop := ∀ v, 0 ≤ v → v < 6 → a v = b v
theorem vLt_ir {a b : Int → Int} (h : vE6 a b) : ¬ vLt a b := fun ⟨v, hv, _, hl⟩ => by have := h v hv.1 hv.2; omega
theorem vLt_tr {a b c : Int → Int} (h1 : vLt a b) (h2 : vLt b c) : vLt a c := by
  obtain ⟨v, hv, e, l⟩ := h1
  obtain ⟨w, hw, e', l'⟩ := h2
  rcases Int.lt_trichotomy v w with q | q | q
  · exact ⟨v, hv, fun x a b => by rw [e x a b, e' x a (by omega)], by rw [← e' v hv.1 q]; exact l⟩
  · subst q; exact ⟨v, hv, fun x a b => by rw [e x a b, e' x a b], by omega⟩
  · exact ⟨w, hw, fun x a b => by rw [e x a (by omega), e' x a b], by rw [e w hw.1 q]; exact l'⟩
theorem vLt_tri (a b : Int → Int) : vLt a b ∨ vE6 a b ∨ vLt b a := by
  have key : ∀ n : Nat, (n : Int) ≤ 6 → (∀ w, 0 ≤ w → w < (n : Int) → a w = b w) ∨ vLt a b ∨ vLt b a := by
    intro n
    induction n with
    | zero => intro _; exact Or.inl (fun w h1 h2 => by omega)
    | succ n ih =>
      intro hn
      rcases ih (by omega) with h | h
      · rcases Int.lt_trichotomy (a n) (b n) with q | q | q
        · exact Or.inr (Or.inl ⟨n, by omega, h, q⟩)
        · refine Or.inl (fun w h1 h2 => ?_)
          by_cases hw : w = n
          · subst hw; exact q
          · exact h w h1 (by omega)
        · exact Or.inr (Or.inr ⟨n, by omega, fun w h1 h2 => (h w h1 h2).symm, q⟩)
      · exact Or.inr h
  rcases key 6 (by omega) with h | h | h
  · exact Or.inr (Or.inl (fun v h1 h2 => h v h1 h2))
  · exact Or.inl h
  · exact Or.inr (Or.inr h)
theorem vLt_l {a b c : Int → Int} (h : vE6 a b) (h2 : vLt b c) : vLt a c := by
  obtain ⟨w, hw, e', l'⟩ := h2
  exact ⟨w, hw, fun x p q => by rw [h x p (by omega), e' x p q], by rw [h w hw.1 hw.2]; exact l'⟩
theorem vLt_r {a b c : Int → Int} (h2 : vLt a b) (h : vE6 b c) : vLt a c := by
  obtain ⟨w, hw, e', l'⟩ := h2
  exact ⟨w, hw, fun x p q => by rw [← h x p (by omega), e' x p q], by rw [← h w hw.1 hw.2]; exact l'⟩
def insI {α : Type} (f : Int → α) (k : Int) (x : α) : Int → α := fun j => if j < k then f j else if j = k then x else f (j - 1)
noncomputable def vPos (s : VA) (x : Int → Int) : Int := fstI (fun i => ¬ vLt (s.2.1 i) x) s.1.toNat
noncomputable def noteS (u : Int) (x : Int → Int) (s : VA) : VA :=
  pif (vPos s x < s.1 ∧ vE6 (s.2.1 (vPos s x)) x) (s.1, s.2.1, updI s.2.2.1 (vPos s x) (s.2.2.1 (vPos s x) + if s.2.2.2.2.1 (vPos s x) = u then 0 else 1), s.2.2.2.1, updI s.2.2.2.2.1 (vPos s x) u, s.2.2.2.2.2)
    (if s.1 = 300 then (s.1, s.2.1, s.2.2.1, s.2.2.2.1, s.2.2.2.2.1, 1) else (s.1 + 1, insI s.2.1 (vPos s x) x, insI s.2.2.1 (vPos s x) 1, insI s.2.2.2.1 (vPos s x) u, insI s.2.2.2.2.1 (vPos s x) u, s.2.2.2.2.2))
/-- in order; found at most once by each union up to u -/
def vSt (u : Int) (s : VA) : Prop := (0 ≤ s.1 ∧ s.1 ≤ 300) ∧ (∀ i j, 0 ≤ i → i < j → j < s.1 → vLt (s.2.1 i) (s.2.1 j)) ∧ (∀ i, 0 ≤ i → i < s.1 → (0 ≤ s.2.2.1 i ∧ s.2.2.1 i ≤ s.2.2.2.2.1 i + 1) ∧ s.2.2.2.2.1 i ≤ u) ∧ (s.2.2.2.2.2 = 0 ∨ s.2.2.2.2.2 = 1)
theorem vPos_s {u : Int} {s : VA} (h : vSt u s) (x : Int → Int) : (0 ≤ vPos s x ∧ vPos s x ≤ s.1) ∧ (vPos s x < s.1 → ¬ vLt (s.2.1 (vPos s x)) x) ∧ ∀ j, 0 ≤ j → j < vPos s x → vLt (s.2.1 j) x := by
  obtain ⟨a, b, c⟩ := fstI_s (fun i => ¬ vLt (s.2.1 i) x) s.1.toNat
  have e : ((s.1.toNat : Nat) : Int) = s.1 := by have := h.1; omega
  rw [e] at a b
  exact ⟨a, b, fun j p q => Classical.byContradiction (c j p q)⟩
theorem vPos_eq {u : Int} {s : VA} (h : vSt u s) {x : Int → Int} {i : Int} (h0 : 0 ≤ i) (h1 : i < s.1) (he : vE6 (s.2.1 i) x) : vPos s x = i := by
  refine fstI_u h0 (by have := h.1; omega) (fun _ => vLt_ir he) (fun j p q hn => hn (vLt_r (h.2.1 j i p q h1) he))
theorem noteS_st {u : Int} {x : Int → Int} {s : VA} (h : vSt u s) (hu : 0 ≤ u) : vSt u (noteS u x s) := by
  obtain ⟨p1, p2, p3⟩ := vPos_s h x
  obtain ⟨h1, h2, h3, h4⟩ := h
  unfold noteS
  by_cases hc : vPos s x < s.1 ∧ vE6 (s.2.1 (vPos s x)) x
  · rw [pif_t hc]
    refine ⟨h1, h2, fun i a b => ?_, h4⟩
    dsimp only
    by_cases hi : i = vPos s x
    · rw [hi, updI_s, updI_s]
      have := h3 _ p1.1 hc.1
      split <;> omega
    · rw [updI_n hi, updI_n hi]; exact h3 i a b
  · rw [pif_f hc]
    by_cases hf : s.1 = 300
    · rw [if_pos hf]; exact ⟨h1, h2, h3, Or.inr rfl⟩
    · rw [if_neg hf]
      have gt : vPos s x < s.1 → vLt x (s.2.1 (vPos s x)) := by
        intro q
        rcases vLt_tri (s.2.1 (vPos s x)) x with z | z | z
        · exact absurd z (p2 q)
        · exact absurd ⟨q, z⟩ hc
        · exact z
      have gt2 : ∀ j, vPos s x ≤ j → j < s.1 → vLt x (s.2.1 j) := by
        intro j a b
        by_cases hj : j = vPos s x
        · rw [hj]; exact gt (by omega)
        · exact vLt_tr (gt (by omega)) (h2 _ j p1.1 (by omega) b)
      refine ⟨by dsimp only; omega, fun i j a b c => ?_, fun i a b => ?_, h4⟩
      · dsimp only at c ⊢
        unfold insI
        by_cases hj : j < vPos s x
        · rw [if_pos (by omega), if_pos hj]; exact h2 i j a b (by omega)
        · rw [if_neg hj]
          by_cases hj2 : j = vPos s x
          · rw [if_pos hj2, if_pos (by omega)]; exact p3 i a (by omega)
          · rw [if_neg hj2]
            by_cases hi : i < vPos s x
            · rw [if_pos hi]; exact h2 i (j - 1) a (by omega) (by omega)
            · rw [if_neg hi]
              by_cases hi2 : i = vPos s x
              · rw [if_pos hi2]; exact gt2 (j - 1) (by omega) (by omega)
              · rw [if_neg hi2]; exact h2 (i - 1) (j - 1) (by omega) (by omega) (by omega)
      · dsimp only at b ⊢
        unfold insI
        by_cases hi : i < vPos s x
        · rw [if_pos hi, if_pos hi]; exact h3 i a (by omega)
        · rw [if_neg hi, if_neg hi]
          by_cases hi2 : i = vPos s x
          · rw [if_pos hi2, if_pos hi2]; omega
          · rw [if_neg hi2, if_neg hi2]; exact h3 (i - 1) (by omega) (by omega)
/-- the reference's answers: in the order in which they came; pi: where the i-th of the ordered ones lies -/
abbrev TA : Type := (Int → Int) × (Int → Int) × (Int → Int) × (Int → Int) × Int × Int
def tRp (s : VA) (q : TA) (pi : Int → Int) : Prop := (∀ i, 0 ≤ i → i < s.1 → 0 ≤ pi i ∧ pi i < s.1) ∧ (∀ i j, 0 ≤ i → i < s.1 → 0 ≤ j → j < s.1 → pi i = pi j → i = j) ∧ (∀ j, 0 ≤ j → j < s.1 → ∃ i, (0 ≤ i ∧ i < s.1) ∧ pi i = j) ∧
  ∀ i, 0 ≤ i → i < s.1 → (∀ v, 0 ≤ v → v < 6 → q.1 (6 * pi i + v) = s.2.1 i v) ∧ q.2.1 (pi i) = s.2.2.1 i ∧ q.2.2.1 (pi i) = s.2.2.2.1 i ∧ q.2.2.2.1 (pi i) = s.2.2.2.2.1 i
def tRel (s : VA) (q : TA) : Prop := q.2.2.2.2.1 = s.1 ∧ q.2.2.2.2.2 = s.2.2.2.2.2 ∧ ∃ pi, tRp s q pi
section
variable {c sz mp at_ f tr rw_ : Int → Int} {M n : Nat} {sl : (Int → Int) × Int} {u : Int}
noncomputable def vVec (c mp at_ : Int → Int) (n : Nat) (tr rw_ : Int → Int) (v : Int) : Int :=
  if fstI (fun i => vPl at_ i = -1 - v) (2 * n) < 2 * n then vCd c mp tr rw_ (fstI (fun i => vPl at_ i = -1 - v) (2 * n)) else -1
theorem T54_given {post : Int → Prop} {v : Int} (h : vOK c sz mp M) (hu : uAt f u n tr sl) (hn : n ≤ 4) (hu2 : 0 ≤ u ∧ u < 150) (ht : ∀ k : Int, 0 ≤ k → k < n → 0 ≤ tr k ∧ tr k < M) (hr : ∀ j : Int, 0 ≤ j → j < n → 0 ≤ rw_ j ∧ rw_ j < sz (mp (6 * tr j))) (hv : 0 ≤ v ∧ v < 6) (hp : post (vVec c mp at_ n tr rw_ v)) : wpX54_given post c mp at_ n f rw_ u v := by
  unfold wpX54_given
  have hs := fstI_s (fun i => vPl at_ i = -1 - v) (2 * n)
  refine zl1 _ (fun i => 0 ≤ i ∧ ∀ j, 0 ≤ j → j < i → vPl at_ j ≠ -1 - v) (2 * n) ?_ ⟨by omega, fun j a b => by omega⟩ (by omega)
  intro q i ⟨hi, hI⟩ hN ih
  rw [wX54_given_2]
  refine ⟨by omega, fun z => ?_, fun z => ⟨hi, ?_⟩⟩
  · have e : fstI (fun i => vPl at_ i = -1 - v) (2 * n) = ((2 * n : Nat) : Int) := fstI_u (by omega) (by omega) (fun y => by omega) (fun j a b => hI j a (by omega))
    unfold vVec at hp
    rw [e, if_neg (by omega)] at hp
    exact hp
  · unfold wpX54_placeOf
    refine ⟨by omega, by omega, fun e => ⟨hi, ?_⟩, fun e => ⟨by omega, fun _ e1 => ?_⟩⟩
    · have e2 : fstI (fun i => vPl at_ i = -1 - v) (2 * n) = i := fstI_u hi (by omega) (fun _ => e) (fun j a b => hI j a b)
      unfold vVec at hp
      rw [e2, if_pos (by omega)] at hp
      exact T54_codeAt h hu hn hu2 (by omega) (ht _ (by omega) (by omega)) (hr _ (by omega) (by omega)) (by omega) hp
    · subst e1
      refine ih (by omega) ⟨by omega, fun j a b => ?_⟩
      by_cases hj : j = i
      · subst hj; exact e
      · exact hI j a (by omega)
theorem T54_note {s : VA} {q : TA} (h : vOK c sz mp M) (hu : uAt f u n tr sl) (hn : n ≤ 4) (hu2 : 0 ≤ u ∧ u < 150) (ht : ∀ k : Int, 0 ≤ k → k < n → 0 ≤ tr k ∧ tr k < M) (hr : ∀ j : Int, 0 ≤ j → j < n → 0 ≤ rw_ j ∧ rw_ j < sz (mp (6 * tr j))) (hS : vSt u s) (hR : tRel s q) :
    ∃ q' : TA, tRel (noteS u (vVec c mp at_ n tr rw_) s) q' ∧ ∀ post : (Int → Int) → (Int → Int) → (Int → Int) → (Int → Int) → Int → Int → Prop, post q'.1 q'.2.1 q'.2.2.1 q'.2.2.2.1 q'.2.2.2.2.1 q'.2.2.2.2.2 → wpX54_note post c mp at_ n f rw_ q.1 q.2.1 q.2.2.1 q.2.2.2.1 q.2.2.2.2.1 q.2.2.2.2.2 u := by
  obtain ⟨a, fb, f1, lb, cn, tm⟩ := q
  obtain ⟨ecn, etm, pi, hp1, hp2, hp3, hp4⟩ := hR
  dsimp only at ecn etm hp4
  subst ecn etm
  obtain ⟨h1, h2, h3, h4⟩ := hS
  have hS : vSt u s := ⟨h1, h2, h3, h4⟩
  obtain ⟨p1, p2, p3⟩ := vPos_s hS (vVec c mp at_ n tr rw_)
  -- the first place that is equal, or the count
  have search : ∀ K : Int → Prop, ∀ e : Int, (0 ≤ e ∧ e ≤ s.1) → (e < s.1 → ∀ v, 0 ≤ v → v < 6 → a (6 * e + v) = vVec c mp at_ n tr rw_ v) → (∀ j, 0 ≤ j → j < e → ¬ ∀ v, 0 ≤ v → v < 6 → a (6 * j + v) = vVec c mp at_ n tr rw_ v) → K e → ∃ fu, wX54_note_4 K u c mp at_ n f rw_ a s.1 fu 0 0 := by
    intro K e he heq hne hK
    refine wl2 (fun g x2 x3 => wX54_note_4 K u c mp at_ n f rw_ a s.1 g x2 x3) (fun x2 x3 => (0 ≤ x2 ∧ x2 ≤ e) ∧ (x3 = 0 ∨ (x3 = 1 ∧ x2 = e ∧ e < s.1))) (fun x2 x3 => (2 * (e - x2) + 1 - x3).toNat) ?_ 0 0 ⟨by omega, by simp⟩
    rintro x2 x3 ⟨hx, hx3⟩ g ih
    rw [wX54_note_4]
    refine ⟨fun z => ?_, fun z => ⟨fun e3 => ?_, fun e3 => ?_⟩⟩
    · have : x2 = e := by omega
      subst this; exact hK
    · by_cases hall : ∀ v, 0 ≤ v → v < 6 → a (6 * x2 + v) = vVec c mp at_ n tr rw_ v
      · have ex : x2 = e := by
          rcases Int.lt_or_eq_of_le hx.2 with y | y
          · exact absurd hall (hne x2 hx.1 y)
          · exact y
        refine wl2 (fun g x3 x4 => wX54_note_21 _ u x2 c mp at_ n f rw_ a g x3 x4) (fun x3 x4 => (0 ≤ x4 ∧ x4 ≤ 6) ∧ x3 = 1) (fun x3 x4 => (6 - x4).toNat) ?_ 1 0 ⟨by omega, rfl⟩
        rintro y3 y4 ⟨hy, rfl⟩ g2 ih2
        rw [wX54_note_21]
        refine ⟨fun z4 => ⟨fun w => absurd w (by decide), fun _ => ⟨by omega, fun _ e1 => ?_⟩⟩, fun z4 => ⟨fun w => absurd w (by decide), fun _ => ⟨by omega, T54_given h hu hn hu2 ht hr (by omega) ⟨fun e5 => ⟨by omega, fun _ e6 => ?_⟩, fun e5 => absurd (hall y4 hy.1 (by omega)) e5⟩⟩⟩⟩
        · rw [Int.add_zero] at e1
          subst e1
          exact ih _ _ ⟨by omega, Or.inr ⟨rfl, by omega, by omega⟩⟩ (by omega)
        · subst e6
          exact ih2 _ _ ⟨by omega, rfl⟩ (by omega)
      · have hlt : x2 < e := by
          rcases Int.lt_or_eq_of_le hx.2 with y | y
          · exact y
          · subst y; exact absurd (heq (by omega)) hall
        refine wl2 (fun g x3 x4 => wX54_note_21 _ u x2 c mp at_ n f rw_ a g x3 x4) (fun x3 x4 => (0 ≤ x4 ∧ x4 ≤ 6) ∧ (x3 = 0 ∨ (x3 = 1 ∧ ∀ v, 0 ≤ v → v < x4 → a (6 * x2 + v) = vVec c mp at_ n tr rw_ v))) (fun x3 x4 => (6 - x4).toNat) ?_ 1 0 ⟨by omega, Or.inr ⟨rfl, fun v p q => by omega⟩⟩
        rintro y3 y4 ⟨hy, hy3⟩ g2 ih2
        rw [wX54_note_21]
        have out : y3 = 0 → ((y3 = 0 → (zR (x2 + 1) ∧ ∀ x : Int, x = x2 + 1 → wX54_note_4 K u c mp at_ n f rw_ a s.1 g x y3)) ∧ (¬ y3 = 0 → (zR (x2 + 0) ∧ ∀ x : Int, x = x2 + 0 → wX54_note_4 K u c mp at_ n f rw_ a s.1 g x y3))) := by
          intro e0
          refine ⟨fun _ => ⟨by omega, fun _ e1 => ?_⟩, fun w => absurd e0 w⟩
          subst e1
          exact ih _ _ ⟨by omega, Or.inl e0⟩ (by omega)
        refine ⟨fun z4 => ?_, fun z4 => ⟨fun w => out w, fun w => ⟨by omega, T54_given h hu hn hu2 ht hr (by omega) ⟨fun e5 => ⟨by omega, fun _ e6 => ?_⟩, fun e5 => ⟨by omega, fun _ e6 => ?_⟩⟩⟩⟩⟩
        · rcases hy3 with hy3 | hy3
          · exact out hy3
          · exact absurd (fun v p q => hy3.2 v p (by omega)) hall
        · subst e6
          refine ih2 _ _ ⟨by omega, Or.inr ⟨rfl, fun v p q => ?_⟩⟩ (by omega)
          by_cases hv : v = y4
          · subst hv; exact e5
          · rcases hy3 with hy3 | hy3
            · exact absurd hy3 w
            · exact hy3.2 v p (by omega)
        · subst e6
          exact ih2 _ _ ⟨by omega, Or.inl rfl⟩ (by omega)
    · have : x2 = e := by omega
      subst this; exact hK
  have sv : ∀ i, 0 ≤ i → i < s.1 → ((∀ v, 0 ≤ v → v < 6 → a (6 * pi i + v) = vVec c mp at_ n tr rw_ v) ↔ vE6 (s.2.1 i) (vVec c mp at_ n tr rw_)) := by
    intro i x y
    have := (hp4 i x y).1
    constructor
    · intro z v p q; rw [← this v p q]; exact z v p q
    · intro z v p q; rw [this v p q]; exact z v p q
  unfold noteS
  by_cases hc : vPos s (vVec c mp at_ n tr rw_) < s.1 ∧ vE6 (s.2.1 (vPos s (vVec c mp at_ n tr rw_))) (vVec c mp at_ n tr rw_)
  · rw [pif_t hc]
    generalize hP : vPos s (vVec c mp at_ n tr rw_) = P at *
    have hpP := hp1 P p1.1 hc.1
    have q4 := hp4 P p1.1 hc.1
    have h3P := h3 P p1.1 hc.1
    refine ⟨(a, updI fb (pi P) (fb (pi P) + if lb (pi P) = u then 0 else 1), f1, updI lb (pi P) u, s.1, s.2.2.2.2.2), ⟨rfl, rfl, pi, hp1, hp2, hp3, fun i x y => ?_⟩, fun post hp => ?_⟩
    · dsimp only at x y ⊢
      obtain ⟨z1, z2, z3, z4⟩ := hp4 i x y
      by_cases hi : i = P
      · subst hi
        refine ⟨z1, ?_, z3, ?_⟩
        · rw [updI_s, updI_s, z2, z4]
        · rw [updI_s, updI_s]
      · have hne : pi i ≠ pi P := fun e => hi (hp2 i P x y p1.1 hc.1 e)
        rw [updI_n hne, updI_n hi, updI_n hne, updI_n hi]
        exact ⟨z1, z2, z3, z4⟩
    · unfold wpX54_note
      dsimp only at hp ⊢
      refine search _ (pi P) ⟨hpP.1, by omega⟩ (fun _ => (sv P p1.1 hc.1).mpr hc.2) (fun j x y hall => ?_) ?_
      · obtain ⟨i, hi, rfl⟩ := hp3 j x (by omega)
        have e := vPos_eq hS hi.1 hi.2 ((sv i hi.1 hi.2).mp hall)
        rw [hP] at e
        subst e; omega
      · unfold wX54_note_81
        refine ⟨fun z => by omega, fun z => ⟨fun z2 => by omega, fun z2 => ?_⟩⟩
        unfold wX54_note_168
        refine ⟨by omega, fun e => ⟨by omega, fun _ e1 _ e2 _ e3 => ?_⟩, fun e => ⟨by omega, fun _ e1 _ e2 _ e3 => ?_⟩⟩
        · subst e1 e2 e3; rw [if_pos e] at hp; exact hp
        · subst e1 e2 e3; rw [if_neg e] at hp; exact hp
  · rw [pif_f hc]
    have nope : ∀ j, 0 ≤ j → j < s.1 → ¬ ∀ v, 0 ≤ v → v < 6 → a (6 * j + v) = vVec c mp at_ n tr rw_ v := by
      intro j x y hall
      obtain ⟨i, hi, rfl⟩ := hp3 j x y
      have he := (sv i hi.1 hi.2).mp hall
      have e := vPos_eq hS hi.1 hi.2 he
      exact hc ⟨by rw [e]; exact hi.2, by rw [e]; exact he⟩
    by_cases hf : s.1 = 300
    · rw [if_pos hf]
      refine ⟨(a, fb, f1, lb, s.1, 1), ⟨rfl, rfl, pi, hp1, hp2, hp3, hp4⟩, fun post hp => ?_⟩
      unfold wpX54_note
      dsimp only at hp ⊢
      refine search _ s.1 (by omega) (fun z => by omega) nope ?_
      unfold wX54_note_81
      exact ⟨fun _ => hp, fun z => absurd hf z⟩
    · rw [if_neg hf]
      generalize hP : vPos s (vVec c mp at_ n tr rw_) = P at *
      refine ⟨((fun j => if 6 * s.1 ≤ j ∧ j < 6 * s.1 + 6 then vVec c mp at_ n tr rw_ (j - 6 * s.1) else a j), updI (updI fb s.1 0) s.1 1, updI f1 s.1 u, updI (updI lb s.1 (-1)) s.1 u, s.1 + 1, s.2.2.2.2.2), ⟨rfl, rfl, fun i => if i < P then pi i else if i = P then s.1 else pi (i - 1), fun i x y => ?_, fun i j x y x' y' e => ?_, fun j x y => ?_, fun i x y => ?_⟩, fun post hp => ?_⟩
      · dsimp only at y ⊢
        by_cases hi : i < P
        · rw [if_pos hi]; have := hp1 i x (by omega); omega
        · rw [if_neg hi]
          by_cases hi2 : i = P
          · rw [if_pos hi2]; omega
          · rw [if_neg hi2]; have := hp1 (i - 1) (by omega) (by omega); omega
      · dsimp only at y y' e
        have b1 : ∀ k, 0 ≤ k → k < s.1 → pi k < s.1 := fun k p q => (hp1 k p q).2
        by_cases hi : i < P
        · rw [if_pos hi] at e
          by_cases hj : j < P
          · rw [if_pos hj] at e; exact hp2 i j x (by omega) x' (by omega) e
          · rw [if_neg hj] at e
            by_cases hj2 : j = P
            · rw [if_pos hj2] at e; have := b1 i x (by omega); omega
            · rw [if_neg hj2] at e; have := hp2 i (j - 1) x (by omega) (by omega) (by omega) e; omega
        · rw [if_neg hi] at e
          by_cases hi2 : i = P
          · rw [if_pos hi2] at e
            by_cases hj : j < P
            · rw [if_pos hj] at e; have := b1 j x' (by omega); omega
            · rw [if_neg hj] at e
              by_cases hj2 : j = P
              · omega
              · rw [if_neg hj2] at e; have := b1 (j - 1) (by omega) (by omega); omega
          · rw [if_neg hi2] at e
            by_cases hj : j < P
            · rw [if_pos hj] at e; have := hp2 (i - 1) j (by omega) (by omega) x' (by omega) e; omega
            · rw [if_neg hj] at e
              by_cases hj2 : j = P
              · rw [if_pos hj2] at e; have := b1 (i - 1) (by omega) (by omega); omega
              · rw [if_neg hj2] at e; have := hp2 (i - 1) (j - 1) (by omega) (by omega) (by omega) (by omega) e; omega
      · dsimp only at y ⊢
        by_cases hj : j = s.1
        · exact ⟨P, by omega, by rw [if_neg (by omega), if_pos rfl, hj]⟩
        · obtain ⟨i, hi, e⟩ := hp3 j x (by omega)
          by_cases hi2 : i < P
          · exact ⟨i, by omega, by rw [if_pos hi2, e]⟩
          · exact ⟨i + 1, by omega, by rw [if_neg (by omega), if_neg (by omega), show i + 1 - 1 = i by omega, e]⟩
      · dsimp only at y ⊢
        unfold insI
        by_cases hi : i < P
        · simp only [if_pos hi]
          have b1 := hp1 i x (by omega)
          obtain ⟨z1, z2, z3, z4⟩ := hp4 i x (by omega)
          rw [updI_n (by omega), updI_n (by omega), updI_n (by omega), updI_n (by omega), updI_n (by omega)]
          exact ⟨fun v p q => by rw [if_neg (by omega)]; exact z1 v p q, z2, z3, z4⟩
        · simp only [if_neg hi]
          by_cases hi2 : i = P
          · simp only [if_pos hi2]
            rw [updI_s, updI_s, updI_s]
            exact ⟨fun v p q => by rw [if_pos (by omega), show 6 * s.1 + v - 6 * s.1 = v by omega], rfl, rfl, rfl⟩
          · simp only [if_neg hi2]
            have b1 := hp1 (i - 1) (by omega) (by omega)
            obtain ⟨z1, z2, z3, z4⟩ := hp4 (i - 1) (by omega) (by omega)
            rw [updI_n (by omega), updI_n (by omega), updI_n (by omega), updI_n (by omega), updI_n (by omega)]
            exact ⟨fun v p q => by rw [if_neg (by omega)]; exact z1 v p q, z2, z3, z4⟩
      · unfold wpX54_note
        dsimp only at hp ⊢
        refine search _ s.1 (by omega) (fun z => by omega) nope ?_
        unfold wX54_note_81
        refine ⟨fun z => absurd z hf, fun z => ⟨fun _ => ?_, fun z => absurd rfl z⟩⟩
        refine zl2 _ (fun v g => 0 ≤ v ∧ g = fun j => if 6 * s.1 ≤ j ∧ j < 6 * s.1 + v then vVec c mp at_ n tr rw_ (j - 6 * s.1) else a j) 6 ?_ ⟨by omega, by funext j; rw [if_neg (by omega)]⟩ (by omega)
        rintro g v w ⟨hv, rfl⟩ hN ih
        rw [wX54_note_105]
        refine ⟨fun z => ⟨by omega, fun _ e1 _ e2 _ e3 => ⟨by omega, fun _ e4 => ?_⟩⟩, fun z => T54_given h hu hn hu2 ht hr (by omega) ⟨by omega, fun _ e1 => ⟨by omega, fun _ e2 => ?_⟩⟩⟩
        · subst e1 e2 e3 e4
          have : v = 6 := by omega
          subst this
          unfold wX54_note_168
          rw [updI_s, updI_s]
          refine ⟨by omega, fun e => by omega, fun e => ⟨by omega, fun _ e1 _ e2 _ e3 => ?_⟩⟩
          subst e1 e2 e3
          exact hp
        · subst e1 e2
          refine ih _ (by omega) ⟨by omega, ?_⟩
          funext j
          rw [updI_e]
          by_cases hj : j = 6 * s.1 + v
          · subst hj; rw [if_pos rfl, if_pos (by omega), show 6 * s.1 + v - 6 * s.1 = v by omega]
          · rw [if_neg hj]
            by_cases hj2 : 6 * s.1 ≤ j ∧ j < 6 * s.1 + v
            · rw [if_pos hj2, if_pos (by omega)]
            · rw [if_neg hj2, if_neg (by omega)]
end

/-! VirtualRewrite: rows for the atoms of a union, one atom behind the other; the reference's look -/
theorem vSl_tab {one : Int → Int → Prop} {T : Int → Int} (h : ∀ i j, one i j → T i = T j) : ∀ n : Nat, ∀ i j : Int, 0 ≤ i → i < n → 0 ≤ j → j < n → (vSl one n).1 i = (vSl one n).1 j → T i = T j
  | 0, i, j, a, b, _, _, _ => by omega
  | k + 1, i, j, a, b, a', b', e => by
    have ih := vSl_tab h k
    have hb := vSl_b one k
    have hs := fstI_s (fun j => one j k) k
    unfold vSl at e
    by_cases hf : fstI (fun j => one j k) k < k
    · rw [if_pos hf] at e
      dsimp only at e
      have ho := h _ _ (hs.2.1 hf)
      by_cases hi : i = k
      · by_cases hj : j = k
        · rw [hi, hj]
        · rw [hi, updI_s, updI_n hj] at e
          rw [hi, ← ho]
          exact ih _ j hs.1.1 hf a' (by omega) e
      · by_cases hj : j = k
        · rw [hj, updI_s, updI_n hi] at e
          rw [hj, ← ho]
          exact ih i _ a (by omega) hs.1.1 hf e
        · rw [updI_n hi, updI_n hj] at e
          exact ih i j a (by omega) a' (by omega) e
    · rw [if_neg hf] at e
      dsimp only at e
      by_cases hi : i = k
      · by_cases hj : j = k
        · rw [hi, hj]
        · rw [hi, updI_s, updI_n hj] at e
          have := hb.2 j a' (by omega); omega
      · by_cases hj : j = k
        · rw [hj, updI_s, updI_n hi] at e
          have := hb.2 i a (by omega); omega
        · rw [updI_n hi, updI_n hj] at e
          exact ih i j a (by omega) a' (by omega) e
def vLd_p (sl : Int → Int) (k : Int) : Int → Prop := fun j => sl j = sl k
noncomputable def vLd (sl : Int → Int) (k : Int) : Int := fstI (vLd_p sl k) k.toNat
theorem vLd_s (sl : Int → Int) {k : Int} (hk : 0 ≤ k) : (0 ≤ vLd sl k ∧ vLd sl k ≤ k) ∧ sl (vLd sl k) = sl k ∧ ∀ j, 0 ≤ j → j < vLd sl k → sl j ≠ sl k := by
  obtain ⟨a, b, c⟩ := fstI_s (vLd_p sl k) k.toNat
  have e : ((k.toNat : Nat) : Int) = k := by omega
  rw [e] at a b
  refine ⟨a, ?_, c⟩
  rcases Int.lt_or_eq_of_le a.2 with q | q
  · exact b q
  · unfold vLd; rw [q]
theorem T54_leader {post : Int → Prop} {f tr : Int → Int} {sl : (Int → Int) × Int} {u k : Int} {n : Nat} (hu : uAt f u n tr sl) (hn : n ≤ 4) (hu2 : 0 ≤ u ∧ u < 150) (hk : 0 ≤ k ∧ k < n) (hp : post (vLd sl.1 k)) : wpX54_leader post f u k := by
  unfold wpX54_leader
  obtain ⟨a, b, d⟩ := vLd_s sl.1 hk.1
  refine zl1 _ (fun j => 0 ≤ j) (vLd sl.1 k) ?_ (Int.le_refl 0) a.1
  intro q j hj hN ih
  rw [wX54_leader_2]
  dsimp only
  rw [(hu.1 j hj (by omega)).2, (hu.1 k hk.1 hk.2).2]
  refine ⟨by omega, by omega, fun e => ?_, fun e => ⟨by omega, fun _ e1 => ?_⟩⟩
  · have : j = vLd sl.1 k := by
      rcases Int.lt_or_eq_of_le hN with z | z
      · exact absurd e (d j hj z)
      · exact z
    subst this; exact hp
  · subst e1
    have : j < vLd sl.1 k := by
      rcases Int.lt_or_eq_of_le hN with z | z
      · exact z
      · subst z; exact absurd b e
    exact ih this (by omega)
noncomputable def vLp (step : Int → VA → VA) : Nat → Int → VA → VA
  | 0, _, s => s
  | m + 1, r, s => vLp step m (r + 1) (if s.2.2.2.2.2 = 0 then step r s else s)
theorem vLp_big {step : Int → VA → VA} : ∀ {m : Nat} {r : Int} {s : VA}, s.2.2.2.2.2 ≠ 0 → vLp step m r s = s
  | 0, _, _, _ => rfl
  | m + 1, r, s, h => by unfold vLp; rw [if_neg h]; exact vLp_big h
theorem vLp_c {st st' : Int → VA → VA} : ∀ {m : Nat} {r : Int} {s : VA}, (∀ x s, r ≤ x → x < r + m → st x s = st' x s) → vLp st m r s = vLp st' m r s
  | 0, _, _, _ => rfl
  | m + 1, r, s, h => by
    unfold vLp
    rw [h r s (by omega) (by omega)]
    exact vLp_c (fun x s a b => h x s (by omega) (by omega))
/-- ok: an atom's row goes; vec: the answer; size, ld: of atoms -/
noncomputable def vLk (ok : (Int → Int) → Int → Prop) (vec : (Int → Int) → Int → Int) (size ld : Int → Int) (u : Int) (n : Nat) : Nat → (Int → Int) → VA → VA
  | 0, R, s => noteS u (vec R) s
  | m + 1, R, s =>
    if ld ((n : Int) - ((m : Int) + 1)) < (n : Int) - ((m : Int) + 1) then
      (if s.2.2.2.2.2 = 0 then pif (ok (updI R ((n : Int) - ((m : Int) + 1)) (R (ld ((n : Int) - ((m : Int) + 1))))) ((n : Int) - ((m : Int) + 1))) (vLk ok vec size ld u n m (updI R ((n : Int) - ((m : Int) + 1)) (R (ld ((n : Int) - ((m : Int) + 1))))) s) s else s)
    else vLp (fun r s => pif (ok (updI R ((n : Int) - ((m : Int) + 1)) r) ((n : Int) - ((m : Int) + 1))) (vLk ok vec size ld u n m (updI R ((n : Int) - ((m : Int) + 1)) r) s) s) (size ((n : Int) - ((m : Int) + 1))).toNat 0 s
section
variable {ok : (Int → Int) → Int → Prop} {vec : (Int → Int) → Int → Int} {size ld : Int → Int} {u : Int} {n : Nat}
theorem vLk_c (hok : ∀ (R R' : Int → Int) (k : Int), 0 ≤ k → (∀ j, 0 ≤ j → j ≤ k → R j = R' j) → (ok R k ↔ ok R' k)) (hvec : ∀ R R' : Int → Int, (∀ j : Int, 0 ≤ j → j < n → R j = R' j) → vec R = vec R') (hld : ∀ k, 0 ≤ k → 0 ≤ ld k) :
    ∀ (m : Nat) (R R' : Int → Int) (s : VA), m ≤ n → (∀ j : Int, 0 ≤ j → j < (n : Int) - m → R j = R' j) → vLk ok vec size ld u n m R s = vLk ok vec size ld u n m R' s
  | 0, R, R', s, _, h => by unfold vLk; rw [hvec R R' (fun j a b => h j a (by omega))]
  | m + 1, R, R', s, hm, h => by
    have ih := vLk_c hok hvec hld m
    have h' : ∀ j : Int, 0 ≤ j → j < (n : Int) - ((m : Int) + 1) → R j = R' j := fun j a b => h j a (by omega)
    have one : ∀ r s, pif (ok (updI R ((n : Int) - ((m : Int) + 1)) r) ((n : Int) - ((m : Int) + 1))) (vLk ok vec size ld u n m (updI R ((n : Int) - ((m : Int) + 1)) r) s) s = pif (ok (updI R' ((n : Int) - ((m : Int) + 1)) r) ((n : Int) - ((m : Int) + 1))) (vLk ok vec size ld u n m (updI R' ((n : Int) - ((m : Int) + 1)) r) s) s := by
      intro r s
      have e : ∀ j : Int, 0 ≤ j → j ≤ (n : Int) - ((m : Int) + 1) → updI R ((n : Int) - ((m : Int) + 1)) r j = updI R' ((n : Int) - ((m : Int) + 1)) r j := by
        intro j a b
        by_cases hj : j = (n : Int) - ((m : Int) + 1)
        · rw [hj, updI_s, updI_s]
        · rw [updI_n hj, updI_n hj]; exact h' j a (by omega)
      rw [pif_c (hok _ _ _ (by omega) e), ih _ _ s (by omega) (fun j a b => e j a (by omega))]
    unfold vLk
    by_cases hl : ld ((n : Int) - ((m : Int) + 1)) < (n : Int) - ((m : Int) + 1)
    · rw [if_pos hl, if_pos hl, h' _ (hld _ (by omega)) hl, one]
    · rw [if_neg hl, if_neg hl]
      exact vLp_c (fun x s _ _ => one x s)
theorem vLk_st (hu : 0 ≤ u) : ∀ (m : Nat) (R : Int → Int) (s : VA), vSt u s → vSt u (vLk ok vec size ld u n m R s)
  | 0, R, s, h => by unfold vLk; exact noteS_st h hu
  | m + 1, R, s, h => by
    have ih := vLk_st hu m
    have one : ∀ r s, vSt u s → vSt u (pif (ok (updI R ((n : Int) - ((m : Int) + 1)) r) ((n : Int) - ((m : Int) + 1))) (vLk ok vec size ld u n m (updI R ((n : Int) - ((m : Int) + 1)) r) s) s) := by
      intro r s hs
      by_cases hc : ok (updI R ((n : Int) - ((m : Int) + 1)) r) ((n : Int) - ((m : Int) + 1))
      · rw [pif_t hc]; exact ih _ s hs
      · rw [pif_f hc]; exact hs
    unfold vLk
    split
    · split
      · exact one _ s h
      · exact h
    · generalize (size ((n : Int) - ((m : Int) + 1))).toNat = z
      generalize (0 : Int) = r
      induction z generalizing r s with
      | zero => exact h
      | succ z ihz =>
        unfold vLp
        apply ihz
        split
        · exact one r s h
        · exact h
end
section
variable {c sz mp at_ sp f tr : Int → Int} {sc : Int} {M n : Nat} {sl : (Int → Int) × Int} {u : Int} {K : (Int → Int) → (Int → Int) → (Int → Int) → (Int → Int) → (Int → Int) → Int → Int → Prop}
/-- what is known while a union is gone through -/
def vCx (c sz mp at_ sp f tr : Int → Int) (sc : Int) (M n : Nat) (sl : (Int → Int) × Int) (u : Int) : Prop := vOK c sz mp M ∧ uAt f u n tr sl ∧ n ≤ 4 ∧ (0 ≤ u ∧ u < 150) ∧ (∀ k : Int, 0 ≤ k → k < n → 0 ≤ tr k ∧ tr k < M) ∧ (0 ≤ sc ∧ sc ≤ 4) ∧ (∀ i : Int, 0 ≤ i → i < 2 * n → -6 ≤ vPl at_ i) ∧ ∀ i j : Int, 0 ≤ i → i < n → 0 ≤ j → j < n → sl.1 i = sl.1 j → mp (6 * tr i) = mp (6 * tr j)
noncomputable def vLkU (c sz mp at_ sp tr : Int → Int) (sc : Int) (n : Nat) (sl : Int → Int) (u : Int) : Nat → (Int → Int) → VA → VA := vLk (fun R k => vGo c mp at_ sp sc tr R k) (fun R => vVec c mp at_ n tr R) (fun k => sz (mp (6 * tr k))) (vLd sl) u n
theorem vCd_c {R R' : Int → Int} {i : Int} (h : R (i / 2) = R' (i / 2)) : vCd c mp tr R i = vCd c mp tr R' i := by unfold vCd; rw [h]
theorem vGo_c {R R' : Int → Int} {k : Int} (hk : 0 ≤ k) (h : ∀ j, 0 ≤ j → j ≤ k → R j = R' j) : vGo c mp at_ sp sc tr R k ↔ vGo c mp at_ sp sc tr R' k := by
  have e : ∀ i, 0 ≤ i → i < 2 * k + 2 → vCd c mp tr R i = vCd c mp tr R' i := fun i a b => vCd_c (h _ (by omega) (by omega))
  unfold vGo
  constructor
  · intro hg i a b
    obtain ⟨g1, g2⟩ := hg i a b
    rw [← e i (by omega) b]
    exact ⟨g1, fun z => ⟨fun j x y w => by rw [← e j x (by omega)]; exact (g2 z).1 j x y w, (g2 z).2⟩⟩
  · intro hg i a b
    obtain ⟨g1, g2⟩ := hg i a b
    rw [e i (by omega) b]
    exact ⟨g1, fun z => ⟨fun j x y w => by rw [e j x (by omega)]; exact (g2 z).1 j x y w, (g2 z).2⟩⟩
theorem vVec_c {R R' : Int → Int} (h : ∀ j : Int, 0 ≤ j → j < n → R j = R' j) : vVec c mp at_ n tr R = vVec c mp at_ n tr R' := by
  funext v
  unfold vVec
  have hs := fstI_s (fun i => vPl at_ i = -1 - v) (2 * n)
  by_cases hl : fstI (fun i => vPl at_ i = -1 - v) (2 * n) < 2 * n
  · rw [if_pos hl, if_pos hl]; exact vCd_c (h _ (by omega) (by omega))
  · rw [if_neg hl, if_neg hl]
def tLk (K : (Int → Int) → (Int → Int) → (Int → Int) → (Int → Int) → (Int → Int) → Int → Int → Prop) (c sz mp at_ sp f : Int → Int) (sc : Int) (n : Nat) (u : Int) (fu : Nat) (k : Int) (R : Int → Int) (q : TA) : Prop := wX54_look_9 K u c sz mp at_ n sp sc f fu k R q.1 q.2.1 q.2.2.1 q.2.2.2.1 q.2.2.2.2.1 q.2.2.2.2.2
theorem tLk_K {fu : Nat} {k : Int} {R : Int → Int} {q : TA} (hb : q.2.2.2.2.2 ≠ 0) (h : tLk K c sz mp at_ sp f sc n u fu k R q) : K R q.1 q.2.1 q.2.2.1 q.2.2.2.1 q.2.2.2.2.1 q.2.2.2.2.2 := by
  cases fu with
  | zero => exact False.elim h
  | succ fu =>
    unfold tLk at h
    rw [wX54_look_9] at h
    by_cases hk : k < 0
    · exact h.1 hk
    · exact (h.2 hk).2 hb
theorem tLk_big {k k' : Int} {R : Int → Int} {q : TA} (hb : q.2.2.2.2.2 ≠ 0) (h : ∃ fu, tLk K c sz mp at_ sp f sc n u fu k R q) : ∃ fu, tLk K c sz mp at_ sp f sc n u fu k' R q := by
  obtain ⟨fu, h⟩ := h
  have hK := tLk_K hb h
  refine ⟨1, ?_⟩
  unfold tLk
  rw [wX54_look_9]
  exact ⟨fun _ => hK, fun _ => ⟨fun z => absurd z hb, fun _ => hK⟩⟩
/-- what follows when an atom's row goes -/
def tBd (K : (Int → Int) → (Int → Int) → (Int → Int) → (Int → Int) → (Int → Int) → Int → Int → Prop) (c sz mp at_ sp f : Int → Int) (sc : Int) (n : Nat) (u : Int) (fu : Nat) (k : Int) (R : Int → Int) (q : TA) : Prop :=
  zR (k + 1) ∧ (((n : Int) ≤ k + 1 → wpX54_note (fun a b d e g h => wX54_look_9 K u c sz mp at_ n sp sc f fu k R a b d e g h) c mp at_ n f R q.1 q.2.1 q.2.2.1 q.2.2.2.1 q.2.2.2.2.1 q.2.2.2.2.2 u) ∧ (¬ (n : Int) ≤ k + 1 → ∀ x : Int, x = k + 1 → ((0 ≤ x ∧ x < 4) ∧ ∀ R2 : Int → Int, R2 = updI R x (-1) → wX54_look_9 K u c sz mp at_ n sp sc f fu x R2 q.1 q.2.1 q.2.2.1 q.2.2.2.1 q.2.2.2.2.1 q.2.2.2.2.2)))
theorem T54_113 (hX : vCx c sz mp at_ sp f tr sc M n sl u) {fu : Nat} {k : Int} {R : Int → Int} {q : TA} (hk : 0 ≤ k ∧ k < n) (hr : ∀ j, 0 ≤ j → j ≤ k → 0 ≤ R j ∧ R j < sz (mp (6 * tr j)))
    (h1 : vGo c mp at_ sp sc tr R k → tBd K c sz mp at_ sp f sc n u fu k R q) (h0 : ¬ vGo c mp at_ sp sc tr R k → tLk K c sz mp at_ sp f sc n u fu k R q) :
    wX54_look_113 (wX54_look_9 K u c sz mp at_ n sp sc f fu) u k 1 c mp at_ n sp sc f R q.1 q.2.1 q.2.2.1 q.2.2.2.1 q.2.2.2.2.1 q.2.2.2.2.2 := by
  obtain ⟨hOK, hu, hn, hu2, ht, hsc, ha, htab⟩ := hX
  unfold wX54_look_113
  exact ⟨fun z => absurd z (by decide), fun _ => T54_goesB hOK hu hn hu2 hk ht hr hsc ha h1 h0⟩
theorem T54_lev1 (hX : vCx c sz mp at_ sp f tr sc M n sl u) (m : Nat)
    (hbody : ∀ (k : Int) (R : Int → Int) (s : VA) (q : TA), k = (n : Int) - ((m : Int) + 1) → 0 ≤ k → (∀ j, 0 ≤ j → j ≤ k → 0 ≤ R j ∧ R j < sz (mp (6 * tr j))) → vSt u s → tRel s q →
      (∀ R' q', (∀ j, 0 ≤ j → j ≤ k → R' j = R j) → tRel (vLkU c sz mp at_ sp tr sc n sl.1 u m R s) q' → ∃ fu, tLk K c sz mp at_ sp f sc n u fu k R' q') → ∃ fu, tBd K c sz mp at_ sp f sc n u fu k R q)
    (k : Int) (R : Int → Int) (s : VA) (q : TA) (hk : k = (n : Int) - ((m : Int) + 1)) (hk0 : 0 ≤ k) (hRk : R k = -1) (hr : ∀ j, 0 ≤ j → j < k → 0 ≤ R j ∧ R j < sz (mp (6 * tr j))) (hS : vSt u s) (hR : tRel s q)
    (hend : ∀ R' q', (∀ j, 0 ≤ j → j < k → R' j = R j) → tRel (vLkU c sz mp at_ sp tr sc n sl.1 u (m + 1) R s) q' → ∃ fu, tLk K c sz mp at_ sp f sc n u fu (k - 1) R' q') : ∃ fu, tLk K c sz mp at_ sp f sc n u fu k R q := by
  obtain ⟨hOK, hu, hn, hu2, ht, hsc, ha, htab⟩ := id hX
  have cc := vLk_c (ok := fun R k => vGo c mp at_ sp sc tr R k) (vec := fun R => vVec c mp at_ n tr R) (size := fun k => sz (mp (6 * tr k))) (ld := vLd sl.1) (u := u) (n := n) (fun R R' k h0 h => vGo_c h0 h) (fun R R' h => vVec_c h) (fun k hk => (vLd_s sl.1 hk).1.1)
  obtain ⟨l1, l2, l3⟩ := vLd_s sl.1 hk0
  have htk := ht k hk0 (by omega)
  have hmk := (hOK.2.2.1 _ htk.1 htk.2).1
  have hzk := hOK.2.1 _ hmk.1 hmk.2
  have hM12 : (M : Int) ≤ 12 := hOK.1.2
  have utk := (hu.1 k hk0 (by omega)).1
  -- the spec at this level
  have spec : vLkU c sz mp at_ sp tr sc n sl.1 u (m + 1) R s = if vLd sl.1 k < k then (if s.2.2.2.2.2 = 0 then pif (vGo c mp at_ sp sc tr (updI R k (R (vLd sl.1 k))) k) (vLkU c sz mp at_ sp tr sc n sl.1 u m (updI R k (R (vLd sl.1 k))) s) s else s) else vLp (fun r s => pif (vGo c mp at_ sp sc tr (updI R k r) k) (vLkU c sz mp at_ sp tr sc n sl.1 u m (updI R k r) s) s) (sz (mp (6 * tr k))).toNat 0 s := by
    unfold vLkU
    rw [vLk, ← hk]
  have try1 : ∀ (R1 : Int → Int) (r : Int) (s : VA) (q : TA), (∀ j, 0 ≤ j → j < k → R1 j = R j) → R1 k = r → (0 ≤ r ∧ r < sz (mp (6 * tr k))) → vSt u s → tRel s q →
      (∀ R' q', (∀ j, 0 ≤ j → j < k → R' j = R j) → R' k = r → tRel (pif (vGo c mp at_ sp sc tr (updI R k r) k) (vLkU c sz mp at_ sp tr sc n sl.1 u m (updI R k r) s) s) q' → ∃ fu, tLk K c sz mp at_ sp f sc n u fu k R' q') →
      ∃ fu, wX54_look_113 (wX54_look_9 K u c sz mp at_ n sp sc f fu) u k 1 c mp at_ n sp sc f R1 q.1 q.2.1 q.2.2.1 q.2.2.2.1 q.2.2.2.2.1 q.2.2.2.2.2 := by
    intro R1 r s q h1 h2 h3 hS hR hgo
    have ag1 : ∀ j, 0 ≤ j → j ≤ k → R1 j = updI R k r j := by
      intro j a b
      by_cases hj : j = k
      · rw [hj, updI_s, h2]
      · rw [updI_n hj]; exact h1 j a (by omega)
    have hv : ∀ j, 0 ≤ j → j ≤ k → 0 ≤ R1 j ∧ R1 j < sz (mp (6 * tr j)) := by
      intro j a b
      by_cases hj : j = k
      · rw [hj, h2]; exact h3
      · rw [h1 j a (by omega)]; exact hr j a (by omega)
    have eg := vGo_c (c := c) (mp := mp) (at_ := at_) (sp := sp) (sc := sc) (tr := tr) hk0 ag1
    have ek : vLkU c sz mp at_ sp tr sc n sl.1 u m R1 s = vLkU c sz mp at_ sp tr sc n sl.1 u m (updI R k r) s := cc m R1 _ s (by omega) (fun j a b => ag1 j a (by omega))
    by_cases hg : vGo c mp at_ sp sc tr R1 k
    · rw [pif_t (eg.mp hg), ← ek] at hgo
      obtain ⟨fu, hb⟩ := hbody k R1 s q hk hk0 hv hS hR (fun R' q' ha' hq' => hgo R' q' (fun j a b => by rw [ha' j a (by omega)]; exact h1 j a b) (by rw [ha' k hk0 (by omega), h2]) hq')
      exact ⟨fu, T54_113 hX ⟨hk0, by omega⟩ hv (fun _ => hb) (fun z => absurd hg z)⟩
    · rw [pif_f (fun z => hg (eg.mpr z))] at hgo
      obtain ⟨fu, hb⟩ := hgo R1 q h1 h2 hR
      exact ⟨fu, T54_113 hX ⟨hk0, by omega⟩ hv (fun z => absurd z hg) (fun _ => hb)⟩
  have hb0 : ∀ {s : VA} {q : TA}, tRel s q → q.2.2.2.2.2 = s.2.2.2.2.2 := fun h => h.2.1
  rw [spec] at hend
  by_cases hl : vLd sl.1 k < k
  · rw [if_pos hl] at hend
    have hrl := hr _ l1.1 hl
    have etab := htab k _ hk0 (by omega) l1.1 (by omega) l2.symm
    -- the second time there is no more
    have again : ∀ R' q', (∀ j, 0 ≤ j → j < k → R' j = R j) → 0 ≤ R' k → (∃ fu, tLk K c sz mp at_ sp f sc n u fu (k - 1) (updI R' k (R' (vLd sl.1 k))) q') → (q'.2.2.2.2.2 ≠ 0 → ∃ fu, tLk K c sz mp at_ sp f sc n u fu (k - 1) R' q') → ∃ fu, tLk K c sz mp at_ sp f sc n u fu k R' q' := by
      intro R' q' h1 h2 ⟨fu, h3⟩ h4
      by_cases hbig : q'.2.2.2.2.2 = 0
      · refine ⟨fu + 1, ?_⟩
        unfold tLk
        rw [wX54_look_9]
        refine ⟨fun z => by omega, fun _ => ⟨fun _ => T54_leader hu hn hu2 ⟨hk0, by omega⟩ ⟨fun z => by omega, fun _ => ⟨by omega, fun _ => ⟨by omega, fun _ e1 _ e2 => ?_⟩, fun z => absurd h2 z⟩⟩, fun z => absurd hbig z⟩⟩
        subst e1 e2
        unfold wX54_look_113
        refine ⟨fun _ => ⟨by omega, fun _ e1 => ?_⟩, fun z => absurd rfl z⟩
        have : k + (-1) = k - 1 := by omega
        rw [this] at e1
        subst e1
        exact h3
      · exact tLk_big hbig (h4 hbig)
    by_cases hbig : s.2.2.2.2.2 = 0
    · rw [if_pos hbig] at hend
      obtain ⟨fu, h113⟩ := try1 (updI R k (R (vLd sl.1 k))) (R (vLd sl.1 k)) s q (fun j a b => updI_n (by omega)) updI_s (by rw [etab]; exact hrl) hS hR (fun R' q' h1 h2 h3 => again R' q' h1 (by rw [h2]; exact hrl.1) (hend _ q' (fun j a b => by rw [updI_n (by omega)]; exact h1 j a b) h3) (fun _ => hend R' q' h1 h3))
      refine ⟨fu + 1, ?_⟩
      unfold tLk
      rw [wX54_look_9]
      refine ⟨fun z => by omega, fun _ => ⟨fun _ => T54_leader hu hn hu2 ⟨hk0, by omega⟩ ⟨fun z => by omega, fun _ => ⟨by omega, fun z => by omega, fun _ => ⟨by omega, fun _ e1 _ e2 => ?_⟩⟩⟩, fun z => absurd (by rw [hb0 hR]; exact hbig) z⟩⟩
      subst e1 e2
      exact h113
    · rw [if_neg hbig] at hend
      exact tLk_big (by rw [hb0 hR]; exact hbig) (hend R q (fun _ _ _ => rfl) hR)
  · rw [if_neg hl] at hend
    have ldk : vLd sl.1 k = k := by omega
    have rows : ∀ (d : Nat) (r : Int) (R1 : Int → Int) (s : VA) (q : TA), r + d = sz (mp (6 * tr k)) → 0 ≤ r → R1 k = r - 1 → (∀ j, 0 ≤ j → j < k → R1 j = R j) → vSt u s → tRel s q →
        (∀ R' q', (∀ j, 0 ≤ j → j < k → R' j = R j) → tRel (vLp (fun r s => pif (vGo c mp at_ sp sc tr (updI R k r) k) (vLkU c sz mp at_ sp tr sc n sl.1 u m (updI R k r) s) s) d r s) q' → ∃ fu, tLk K c sz mp at_ sp f sc n u fu (k - 1) R' q') → ∃ fu, tLk K c sz mp at_ sp f sc n u fu k R1 q := by
      intro d
      induction d with
      | zero =>
        intro r R1 s q hd hr0 hRk h1 hS hR hend
        by_cases hbig : s.2.2.2.2.2 = 0
        · obtain ⟨fu, h3⟩ := hend (updI R1 k (R1 k + 1)) q (fun j a b => by rw [updI_n (by omega)]; exact h1 j a b) hR
          refine ⟨fu + 1, ?_⟩
          unfold tLk
          rw [wX54_look_9]
          refine ⟨fun z => by omega, fun _ => ⟨fun _ => T54_leader hu hn hu2 ⟨hk0, by omega⟩ ⟨fun _ => ⟨by omega, by omega, fun _ e1 _ e2 => ?_⟩, fun z => by omega⟩, fun z => absurd (by rw [hb0 hR]; exact hbig) z⟩⟩
          subst e1 e2
          rw [utk, updI_s]
          refine ⟨by omega, by omega, hmk, fun _ => ?_, fun z => by omega⟩
          unfold wX54_look_113
          refine ⟨fun _ => ⟨by omega, fun _ e1 => ?_⟩, fun z => absurd rfl z⟩
          have : k + (-1) = k - 1 := by omega
          rw [this] at e1
          subst e1
          exact h3
        · exact tLk_big (by rw [hb0 hR]; exact hbig) (hend R1 q h1 hR)
      | succ d ihd =>
        intro r R1 s q hd hr0 hRk h1 hS hR hend
        by_cases hbig : s.2.2.2.2.2 = 0
        · unfold vLp at hend
          rw [if_pos hbig] at hend
          have hS' : vSt u (pif (vGo c mp at_ sp sc tr (updI R k r) k) (vLkU c sz mp at_ sp tr sc n sl.1 u m (updI R k r) s) s) := by
            by_cases hg : vGo c mp at_ sp sc tr (updI R k r) k
            · rw [pif_t hg]; exact vLk_st hu2.1 m _ s hS
            · rw [pif_f hg]; exact hS
          obtain ⟨fu, h113⟩ := try1 (updI R1 k (R1 k + 1)) r s q (fun j a b => by rw [updI_n (by omega)]; exact h1 j a b) (by rw [updI_s]; omega) (by omega) hS hR (fun R' q' g1 g2 g3 => ihd (r + 1) R' _ q' (by omega) (by omega) (by omega) g1 hS' g3 hend)
          refine ⟨fu + 1, ?_⟩
          unfold tLk
          rw [wX54_look_9]
          refine ⟨fun z => by omega, fun _ => ⟨fun _ => T54_leader hu hn hu2 ⟨hk0, by omega⟩ ⟨fun _ => ⟨by omega, by omega, fun _ e1 _ e2 => ?_⟩, fun z => by omega⟩, fun z => absurd (by rw [hb0 hR]; exact hbig) z⟩⟩
          subst e1 e2
          rw [utk, updI_s]
          exact ⟨by omega, by omega, hmk, fun z => by omega, fun _ => h113⟩
        · rw [vLp_big hbig] at hend
          exact tLk_big (by rw [hb0 hR]; exact hbig) (hend R1 q h1 hR)
    exact rows _ 0 R s q (by omega) (by omega) (by omega) (fun _ _ _ => rfl) hS hR hend
theorem T54_level (hX : vCx c sz mp at_ sp f tr sc M n sl u) : ∀ (m : Nat) (k : Int) (R : Int → Int) (s : VA) (q : TA), k = (n : Int) - ((m : Int) + 1) → 0 ≤ k → R k = -1 → (∀ j, 0 ≤ j → j < k → 0 ≤ R j ∧ R j < sz (mp (6 * tr j))) → vSt u s → tRel s q →
    (∀ R' q', (∀ j, 0 ≤ j → j < k → R' j = R j) → tRel (vLkU c sz mp at_ sp tr sc n sl.1 u (m + 1) R s) q' → ∃ fu, tLk K c sz mp at_ sp f sc n u fu (k - 1) R' q') → ∃ fu, tLk K c sz mp at_ sp f sc n u fu k R q := by
  obtain ⟨hOK, hu, hn, hu2, ht, hsc, ha, htab⟩ := id hX
  have cc := vLk_c (ok := fun R k => vGo c mp at_ sp sc tr R k) (vec := fun R => vVec c mp at_ n tr R) (size := fun k => sz (mp (6 * tr k))) (ld := vLd sl.1) (u := u) (n := n) (fun R R' k h0 h => vGo_c h0 h) (fun R R' h => vVec_c h) (fun k hk => (vLd_s sl.1 hk).1.1)
  intro m
  induction m with
  | zero =>
    refine T54_lev1 hX 0 (fun k R s q hk hk0 hv hS hR hgo => ?_)
    obtain ⟨q', hq', hpost⟩ := T54_note (at_ := at_) (rw_ := R) hOK hu hn hu2 ht (fun j a b => hv j a (by omega)) hS hR
    obtain ⟨fu, h3⟩ := hgo R q' (fun _ _ _ => rfl) hq'
    refine ⟨fu, by omega, fun _ => hpost _ h3, fun z => by omega⟩
  | succ m ih =>
    refine T54_lev1 hX (m + 1) (fun k R s q hk hk0 hv hS hR hgo => ?_)
    have ek : vLkU c sz mp at_ sp tr sc n sl.1 u (m + 1) (updI R (k + 1) (-1)) s = vLkU c sz mp at_ sp tr sc n sl.1 u (m + 1) R s := cc (m + 1) _ _ s (by omega) (fun j a b => updI_n (by omega))
    obtain ⟨fu, h3⟩ := ih (k + 1) (updI R (k + 1) (-1)) s q (by omega) (by omega) updI_s (fun j a b => by rw [updI_n (by omega)]; exact hv j a (by omega)) hS hR (fun R' q' ha' hq' => by
      rw [ek] at hq'
      rw [show k + 1 - 1 = k by omega]
      exact hgo R' q' (fun j a b => by rw [ha' j a (by omega), updI_n (by omega)]) hq')
    refine ⟨fu, by omega, fun z => by omega, fun _ x e1 => ?_⟩
    subst e1
    refine ⟨by omega, fun _ e2 => ?_⟩
    subst e2
    exact h3
end

/-! VirtualRewriteModel (X54): look, sort, run, what is told of answers -/
section
variable {c sz mp at_ sp f tr : Int → Int} {sc : Int} {M n : Nat} {sl : (Int → Int) × Int} {u : Int}
theorem T54_look {post : (Int → Int) → (Int → Int) → (Int → Int) → (Int → Int) → (Int → Int) → Int → Int → Prop} {R : Int → Int} {s : VA} {q : TA} (hX : vCx c sz mp at_ sp f tr sc M n sl u) (hn : 0 < n) (hS : vSt u s) (hR : tRel s q)
    (hp : ∀ R' q', tRel (vLkU c sz mp at_ sp tr sc n sl.1 u n (fun _ => 0) s) q' → post R' q'.1 q'.2.1 q'.2.2.1 q'.2.2.2.1 q'.2.2.2.2.1 q'.2.2.2.2.2) : wpX54_look post c sz mp at_ n sp sc f R q.1 q.2.1 q.2.2.1 q.2.2.2.1 q.2.2.2.2.1 q.2.2.2.2.2 u := by
  have cc := vLk_c (ok := fun R k => vGo c mp at_ sp sc tr R k) (vec := fun R => vVec c mp at_ n tr R) (size := fun k => sz (mp (6 * tr k))) (ld := vLd sl.1) (u := u) (n := n) (fun R R' k h0 h => vGo_c h0 h) (fun R R' h => vVec_c h) (fun k hk => (vLd_s sl.1 hk).1.1)
  unfold wpX54_look
  intro _ e1
  subst e1
  obtain ⟨m, rfl⟩ : ∃ m, n = m + 1 := ⟨n - 1, by omega⟩
  refine T54_level hX m 0 (updI R 0 (-1)) s q (by omega) (by omega) updI_s (fun j a b => by omega) hS hR (fun R' q' _ hq' => ⟨1, ?_⟩)
  have ek : vLkU c sz mp at_ sp tr sc (m + 1) sl.1 u (m + 1) (updI R 0 (-1)) s = vLkU c sz mp at_ sp tr sc (m + 1) sl.1 u (m + 1) (fun _ => 0) s := cc (m + 1) _ _ s (by omega) (fun j a b => by omega)
  rw [ek] at hq'
  unfold tLk
  rw [wX54_look_9]
  exact ⟨fun _ => hp R' q' hq', fun z => absurd (by decide) z⟩
end
theorem T54_isLessB {A B : Prop} {a : Int → Int} {i j : Int} (hi : 0 ≤ i ∧ i < 300) (hj : 0 ≤ j ∧ j < 300) (h1 : vLt (fun v => a (6 * i + v)) (fun v => a (6 * j + v)) → B) (h0 : ¬ vLt (fun v => a (6 * i + v)) (fun v => a (6 * j + v)) → A) : wpX54_isLess (fun r => (r = 0 → A) ∧ (¬ r = 0 → B)) a i j := by
  unfold wpX54_isLess
  refine zl1 _ (fun v => 0 ≤ v ∧ ∀ w, 0 ≤ w → w < v → a (6 * i + w) = a (6 * j + w)) 6 ?_ ⟨by omega, fun w x y => by omega⟩ (by omega)
  intro n v ⟨hv, hV⟩ hN ih
  rw [wX54_isLess_2]
  refine ⟨fun z => ?_, fun z => ⟨by omega, by omega, fun e => ⟨by omega, fun _ e1 => ?_⟩, fun e => ?_⟩⟩
  · unfold wX54_isLess_39
    refine ⟨fun _ => ⟨fun _ => h0 (vLt_ir (fun w x y => hV w x (by omega))), fun z => absurd rfl z⟩, fun z2 => by omega⟩
  · subst e1
    refine ih (by omega) ⟨by omega, fun w x y => ?_⟩
    by_cases hw : w = v
    · subst hw; exact e
    · exact hV w x (by omega)
  · unfold wX54_isLess_39
    refine ⟨fun z2 => by omega, fun _ => ⟨by omega, by omega, fun l => ⟨fun _ => h0 ?_, fun z => absurd rfl z⟩, fun l => ⟨fun z => absurd z (by decide), fun _ => h1 ⟨v, by omega, hV, by dsimp only; omega⟩⟩⟩⟩
    rintro ⟨w, hw, he, hl⟩
    dsimp only at he hl
    rcases Int.lt_trichotomy v w with q | q | q
    · exact e (he v hv q)
    · subst q; omega
    · have := hV w hw.1 q; omega
/-- an arrangement of 0 .. c-1 by rising rows -/
def arr (A : Int → Int → Int) (c : Int) (o : Int → Int) : Prop := (∀ i, 0 ≤ i → i < c → 0 ≤ o i ∧ o i < c) ∧ (∀ j, 0 ≤ j → j < c → ∃ i, (0 ≤ i ∧ i < c) ∧ o i = j) ∧ ∀ i j, 0 ≤ i → i < j → j < c → vLt (A (o i)) (A (o j))
theorem arr_u {A : Int → Int → Int} {c : Int} {o p : Int → Int} (ho : arr A c o) (hp : arr A c p) : ∀ i, 0 ≤ i → i < c → o i = p i := by
  have key : ∀ n : Nat, ∀ i : Int, 0 ≤ i → i < n → i < c → o i = p i := by
    intro n
    induction n with
    | zero => intro i a b _; omega
    | succ n ih =>
      intro i a b hc
      by_cases hi : i < n
      · exact ih i a hi hc
      · have e : i = n := by omega
        subst e
        have inj : ∀ {o : Int → Int}, arr A c o → ∀ x y, 0 ≤ x → x < c → 0 ≤ y → y < c → o x = o y → x = y := by
          intro o h x y a b a' b' e
          rcases Int.lt_trichotomy x y with q | q | q
          · exact absurd (h.2.2 x y a q b') (vLt_ir (fun v _ _ => by rw [e]))
          · exact q
          · exact absurd (h.2.2 y x a' q b) (vLt_ir (fun v _ _ => by rw [e]))
        obtain ⟨x, hx, ex⟩ := ho.2.1 _ (hp.1 n a hc).1 (hp.1 n a hc).2
        obtain ⟨y, hy, ey⟩ := hp.2.1 _ (ho.1 n a hc).1 (ho.1 n a hc).2
        by_cases hxn : x < n
        · have := ih x hx.1 hxn hx.2
          rw [this] at ex
          have := inj hp x n hx.1 hx.2 a hc ex
          omega
        · by_cases hyn : y < n
          · have := ih y hy.1 hyn hy.2
            rw [← this] at ey
            have := inj ho y n hy.1 hy.2 a hc ey
            omega
          · by_cases hxe : x = n
            · rw [hxe] at ex; exact ex
            · by_cases hye : y = n
              · rw [hye] at ey; exact ey.symm
              · have l1 := ho.2.2 n x a (by omega) hx.2
                have l2 := hp.2.2 n y a (by omega) hy.2
                rw [ex] at l1
                rw [ey] at l2
                exact absurd (vLt_tr l1 l2) (vLt_ir (fun _ _ _ => rfl))
  intro i a b
  exact key (i.toNat + 1) i a (by omega) b
theorem T54_sort {post : (Int → Int) → Prop} {a o : Int → Int} {cn : Int} (hc : 0 ≤ cn ∧ cn ≤ 300) (hd : ∀ i j, 0 ≤ i → i < cn → 0 ≤ j → j < cn → i ≠ j → vLt (fun v => a (6 * i + v)) (fun v => a (6 * j + v)) ∨ vLt (fun v => a (6 * j + v)) (fun v => a (6 * i + v))) (hp : ∀ o', arr (fun i v => a (6 * i + v)) cn o' → post o') : wpX54_sort post a o cn := by
  unfold wpX54_sort
  refine zl2 _ (fun k o => 0 ≤ k ∧ arr (fun i v => a (6 * i + v)) k o) cn ?_ ⟨by omega, fun i x y => by omega, fun i x y => by omega, fun i j x y z => by omega⟩ hc.1
  rintro n k o ⟨hk, hA⟩ hN ih
  rw [wX54_sort_2]
  refine ⟨fun z => ?_, fun z => ?_⟩
  · have : k = cn := by omega
    subst this
    exact hp o hA
  · refine zd2 _ (fun at_ o' => at_ ≤ k ∧ (∀ i, at_ ≤ i → i < k → vLt (fun v => a (6 * k + v)) (fun v => a (6 * o i + v))) ∧ ∀ j, o' j = if at_ < j ∧ j ≤ k then o (j - 1) else o j) 0 ?_ ⟨by omega, fun i x y => by omega, fun j => by rw [if_neg (by omega)]⟩ hk
    rintro n2 at_ o' ⟨h1, h2, h3⟩ hM ih2
    rw [wX54_sort_12]
    -- the place is found
    have found : (∀ i, 0 ≤ i → i < at_ → vLt (fun v => a (6 * o i + v)) (fun v => a (6 * k + v))) → ((0 ≤ at_ ∧ at_ < 300) ∧ ∀ o2 : Int → Int, o2 = updI o' at_ k → (zR (k + 1) ∧ ∀ x : Int, x = k + 1 → wX54_sort_2 (fun f_order_23 => post f_order_23) a cn n x o2)) := by
      intro hlt
      refine ⟨by omega, fun _ e1 => ⟨by omega, fun _ e2 => ?_⟩⟩
      subst e1 e2
      have eo : ∀ j, updI o' at_ k j = if j < at_ then o j else if j = at_ then k else if j ≤ k then o (j - 1) else o j := by
        intro j
        by_cases hj : j = at_
        · rw [hj, updI_s, if_neg (by omega), if_pos rfl]
        · rw [updI_n hj, h3 j]
          by_cases hj2 : j < at_
          · rw [if_neg (by omega), if_pos hj2]
          · rw [if_neg hj2, if_neg hj]
            by_cases hj3 : j ≤ k
            · rw [if_pos (by omega), if_pos hj3]
            · rw [if_neg (by omega), if_neg hj3]
      refine ih _ (by omega) ⟨by omega, fun i x y => ?_, fun j x y => ?_, fun i j x y w => ?_⟩
      · rw [eo i]
        by_cases q1 : i < at_
        · rw [if_pos q1]; have := hA.1 i x (by omega); omega
        · rw [if_neg q1]
          by_cases q2 : i = at_
          · rw [if_pos q2]; omega
          · rw [if_neg q2, if_pos (by omega)]; have := hA.1 (i - 1) (by omega) (by omega); omega
      · by_cases hj : j = k
        · exact ⟨at_, by omega, by rw [eo, if_neg (by omega), if_pos rfl, hj]⟩
        · obtain ⟨i, hi, e⟩ := hA.2.1 j x (by omega)
          by_cases q1 : i < at_
          · exact ⟨i, by omega, by rw [eo, if_pos q1, e]⟩
          · exact ⟨i + 1, by omega, by rw [eo, if_neg (by omega), if_neg (by omega), if_pos (by omega), show i + 1 - 1 = i by omega, e]⟩
      · rw [eo i, eo j]
        by_cases q1 : j < at_
        · rw [if_pos q1, if_pos (by omega)]; exact hA.2.2 i j x y (by omega)
        · rw [if_neg q1]
          by_cases q2 : j = at_
          · rw [if_pos q2, if_pos (by omega)]; exact hlt i x (by omega)
          · rw [if_neg q2, if_pos (show j ≤ k by omega)]
            by_cases q3 : i < at_
            · rw [if_pos q3]; exact hA.2.2 i (j - 1) x (by omega) (by omega)
            · rw [if_neg q3]
              by_cases q4 : i = at_
              · rw [if_pos q4]; exact h2 (j - 1) (by omega) (by omega)
              · rw [if_neg q4, if_pos (by omega)]; exact hA.2.2 (i - 1) (j - 1) (by omega) (by omega) (by omega)
    refine ⟨fun q => found (fun i x y => by omega), fun q => ⟨by omega, ?_⟩⟩
    have e1 : o' (at_ - 1) = o (at_ - 1) := by rw [h3, if_neg (by omega)]
    have hb := hA.1 (at_ - 1) (by omega) (by omega)
    rw [e1]
    refine T54_isLessB (by omega) (by omega) (fun hl _ e2 => ⟨by omega, fun _ e3 => ⟨by omega, fun _ e4 => ?_⟩⟩) (fun hl => found (fun i x y => ?_))
    · subst e2 e3 e4
      rw [show at_ + (-1) = at_ - 1 by omega]
      refine ih2 _ (by omega) ⟨by omega, fun i x y => ?_, fun j => ?_⟩
      · by_cases hi : i = at_ - 1
        · rw [hi]; exact hl
        · exact h2 i (by omega) y
      · by_cases hj : j = at_
        · rw [hj, updI_s, if_pos (by omega)]
        · rw [updI_n hj, h3 j]
          by_cases hj2 : at_ < j ∧ j ≤ k
          · rw [if_pos hj2, if_pos (by omega)]
          · rw [if_neg hj2, if_neg (by omega)]
    · have hlast : vLt (fun v => a (6 * o (at_ - 1) + v)) (fun v => a (6 * k + v)) := by
        rcases hd (o (at_ - 1)) k hb.1 (by omega) hk (by omega) (by omega) with w | w
        · exact w
        · exact absurd w hl
      by_cases hi : i = at_ - 1
      · rw [hi]; exact hlast
      · exact vLt_tr (hA.2.2 i (at_ - 1) x (by omega) (by omega)) hlast
noncomputable def vS0 : VA := (0, fun _ _ => 0, fun _ => 0, fun _ => 0, fun _ => 0, 0)
/-- the answers of the first unions -/
noncomputable def vRn (c sz ky mp at_ sp : Int → Int) (sc : Int) (M n : Nat) : Nat → VA
  | 0 => vS0
  | u + 1 => if (vRn c sz ky mp at_ sp sc M n u).2.2.2.2.2 = 0 then vLkU c sz mp at_ sp (uTr mp at_ M n u) sc n (uSl ky mp at_ M n u).1 u n (fun _ => 0) (vRn c sz ky mp at_ sp sc M n u) else vRn c sz ky mp at_ sp sc M n u
theorem vSt_up {u u' : Int} {s : VA} (h : vSt u s) (hu : u ≤ u') : vSt u' s := ⟨h.1, h.2.1, fun i a b => ⟨(h.2.2.1 i a b).1, by have := (h.2.2.1 i a b).2; omega⟩, h.2.2.2⟩
theorem vRn_st {c sz ky mp at_ sp : Int → Int} {sc : Int} {M n : Nat} : ∀ u : Nat, vSt ((u : Int) - 1) (vRn c sz ky mp at_ sp sc M n u)
  | 0 => ⟨by unfold vRn vS0; dsimp only; omega, fun i j a b d => by simp only [vRn, vS0] at d; omega, fun i a b => by simp only [vRn, vS0] at b; omega, Or.inl rfl⟩
  | u + 1 => by
    have ih := vRn_st (c := c) (sz := sz) (ky := ky) (mp := mp) (at_ := at_) (sp := sp) (sc := sc) (M := M) (n := n) u
    unfold vRn
    have h2 := vSt_up ih (show (u : Int) - 1 ≤ ((u + 1 : Nat) : Int) - 1 by omega)
    have e : ((u + 1 : Nat) : Int) - 1 = u := by omega
    rw [e] at h2 ⊢
    split
    · exact vLk_st (by omega) n _ _ h2
    · exact h2
/-- what atoms and spans are -/
def vAt (at_ : Int → Int) (n : Nat) : Prop := ∀ i : Int, 0 ≤ i → i < 2 * n → -6 ≤ vPl at_ i ∧ vPl at_ i < 60000
def vAsk (at_ : Int → Int) (n : Nat) (v : Int) : Prop := ∃ i : Int, (0 ≤ i ∧ i < 2 * n) ∧ vPl at_ i = -1 - v
noncomputable def vRun (c sz ky mp at_ sp : Int → Int) (sc : Int) (M n : Nat) : Int :=
  if vRdy mp at_ M n < 0 then vRdy mp at_ M n else if (vRn c sz ky mp at_ sp sc M n (vUc mp at_ M n)).2.2.2.2.2 = 0 then (vRn c sz ky mp at_ sp sc M n (vUc mp at_ M n)).1 else -3
/-- what is kept of a run: how many, their rows, by how many and by which first; which variables are asked -/
noncomputable def vKept (c sz ky mp at_ sp : Int → Int) (sc : Int) (M n : Nat) : Int := if vRun c sz ky mp at_ sp sc M n < 0 then 0 else vRun c sz ky mp at_ sp sc M n
def tAn (cn : Int) (sv : Int → Int → Int) (sf s1 : Int → Int) (ask : Int → Prop) (a fb f1 o asked : Int → Int) (ac : Int) : Prop :=
  ac = cn ∧ (0 ≤ cn ∧ cn ≤ 300) ∧ (∀ i, 0 ≤ i → i < cn → (0 ≤ o i ∧ o i < 300) ∧ (∀ v, 0 ≤ v → v < 6 → a (6 * o i + v) = sv i v) ∧ fb (o i) = sf i ∧ f1 (o i) = s1 i) ∧ (0 < cn → ∀ v, 0 ≤ v → v < 6 → (asked v = 0 ∨ asked v = 1) ∧ (asked v = 1 ↔ ask v))
theorem T54_run {post : Int → Int → (Int → Int) → Int → Int → (Int → Int) → (Int → Int) → (Int → Int) → (Int → Int) → (Int → Int) → (Int → Int) → (Int → Int) → Int → (Int → Int) → Int → Prop} {c sz ky mp at_ sp f tr0 R a fb f1 lb o ask : Int → Int} {sc uc lg : Int} {M n : Nat} (hOK : vOK c sz mp M) (hQ : vQ mp at_ M n) (hA : vAt at_ n) (hsc : 0 ≤ sc ∧ sc ≤ 4)
    (hp : ∀ f' uc' lg' tr R' a' fb' f1' lb' o' ac' ask' tm', (lg' = 0 ∨ lg' = 1 ∨ lg' = lg) → tAn (vKept c sz ky mp at_ sp sc M n) (vRn c sz ky mp at_ sp sc M n (vUc mp at_ M n)).2.1 (vRn c sz ky mp at_ sp sc M n (vUc mp at_ M n)).2.2.1 (vRn c sz ky mp at_ sp sc M n (vUc mp at_ M n)).2.2.2.1 (vAsk at_ n) a' fb' f1' o' ask' ac' → (tm' = 0 ∨ tm' = 1) → post (vRun c sz ky mp at_ sp sc M n) 0 f' uc' lg' tr R' a' fb' f1' lb' o' ac' ask' tm') :
    wpX54_run post c sz ky mp M at_ n sp sc f uc lg tr0 R a fb f1 lb o ask := by
  unfold wpX54_run
  refine T54_ready hQ (fun hr f' uc' lg' tr hl => ⟨fun q => by omega, fun _ => ?_⟩) (fun hr hn f' tr hU hc => ⟨fun _ => ?_, fun q => absurd (by decide) q⟩)
  · have e : vRun c sz ky mp at_ sp sc M n = vRdy mp at_ M n := by unfold vRun; rw [if_pos hr]
    have e2 : vKept c sz ky mp at_ sp sc M n = 0 := by unfold vKept; rw [if_pos (by omega)]
    rw [e, e2] at hp
    exact hp f' uc' lg' tr R a fb f1 lb o 0 ask 0 hl ⟨rfl, by omega, fun i x y => by omega, fun z => by omega⟩ (by simp)
  · refine zl2 _ (fun v g => 0 ≤ v ∧ ∀ j, 0 ≤ j → j < v → g j = 0) 6 ?_ ⟨by omega, fun j x y => by omega⟩ (by omega)
    rintro n1 v g ⟨hv, hg⟩ hN ih
    rw [wX54_run_23]
    refine ⟨fun z => ?_, fun z => ⟨by omega, fun _ e1 => ⟨by omega, fun _ e2 => ?_⟩⟩⟩
    · refine zl2 _ (fun i g => 0 ≤ i ∧ ∀ v, 0 ≤ v → v < 6 → (g v = 0 ∨ g v = 1) ∧ (g v = 1 ↔ ∃ j, (0 ≤ j ∧ j < i) ∧ vPl at_ j = -1 - v)) (2 * n) ?_ ⟨by omega, fun w x y => ⟨Or.inl (hg w x (by omega)), by rw [hg w x (by omega)]; exact ⟨fun z => absurd z (by decide), fun ⟨j, hj, _⟩ => by omega⟩⟩⟩ (by omega)
      rintro n2 i g2 ⟨hi, hg2⟩ hN2 ih2
      rw [wX54_run_44]
      have hai := fun h => hA i hi h
      have h4 : n ≤ 4 := hQ.2.1
      have ep : at_ (3 * (i / 2) + 1 + i % 2) = vPl at_ i := rfl
      refine ⟨by omega, fun z2 => ?_, fun z2 => ⟨hi, ?_⟩⟩
      · -- all unions
        have ei : i = 2 * n := by omega
        subst ei
        refine wloop (fun n3 (w : Int × (Int → Int) × TA) => wX54_run_93 _ c sz mp at_ n sp sc f' (vUc mp at_ M n) n3 w.1 w.2.1 w.2.2.1 w.2.2.2.1 w.2.2.2.2.1 w.2.2.2.2.2.1 w.2.2.2.2.2.2.1 w.2.2.2.2.2.2.2) (fun w => (0 ≤ w.1 ∧ w.1 ≤ vUc mp at_ M n) ∧ tRel (vRn c sz ky mp at_ sp sc M n w.1.toNat) w.2.2) (fun w => ((vUc mp at_ M n : Int) - w.1).toNat) ?_ (0, R, a, fb, f1, lb, 0, 0) ⟨by dsimp only; omega, rfl, rfl, fun i => i, fun i x y => by simp only [vRn, vS0, Int.toNat_zero] at y; omega, fun i j x y => by simp only [vRn, vS0, Int.toNat_zero] at y; omega, fun j x y => by simp only [vRn, vS0, Int.toNat_zero] at y; omega, fun i x y => by simp only [vRn, vS0, Int.toNat_zero] at y; omega⟩
        rintro ⟨u, R1, q⟩ ⟨hu, hR⟩ n3 ih3
        dsimp only at hu hR ih3 ⊢
        rw [wX54_run_93]
        have hSt := vRn_st (c := c) (sz := sz) (ky := ky) (mp := mp) (at_ := at_) (sp := sp) (sc := sc) (M := M) (n := n) u.toNat
        have hu' : ((u.toNat : Nat) : Int) = u := by omega
        -- the end of it
        have fin : ∀ (q : TA), (tRel (vRn c sz ky mp at_ sp sc M n (vUc mp at_ M n)) q) → wX54_run_119 post 0 f' (vUc mp at_ M n) 0 tr R1 q.1 q.2.1 q.2.2.1 q.2.2.2.1 o q.2.2.2.2.1 g2 q.2.2.2.2.2 := by
          intro q hR
          obtain ⟨r1, r2, pi, p1, p2, p3, p4⟩ := hR
          have hSt := vRn_st (c := c) (sz := sz) (ky := ky) (mp := mp) (at_ := at_) (sp := sp) (sc := sc) (M := M) (n := n) (vUc mp at_ M n)
          have hrun : vRun c sz ky mp at_ sp sc M n = if (vRn c sz ky mp at_ sp sc M n (vUc mp at_ M n)).2.2.2.2.2 = 0 then (vRn c sz ky mp at_ sp sc M n (vUc mp at_ M n)).1 else -3 := by unfold vRun; rw [if_neg (by omega)]
          generalize vRn c sz ky mp at_ sp sc M n (vUc mp at_ M n) = s at *
          unfold wX54_run_119
          refine ⟨fun e => ?_, fun e => ?_⟩
          · rw [r2] at e
            rw [if_pos e] at hrun
            have hk : vKept c sz ky mp at_ sp sc M n = s.1 := by unfold vKept; rw [hrun, if_neg (by have := hSt.1; omega)]
            have harr : arr (fun i v => q.1 (6 * i + v)) s.1 pi := ⟨p1, p3, fun i j x y w => by
              have l := hSt.2.1 i j x y w
              exact vLt_r (vLt_l (fun v a b => (p4 i x (by omega)).1 v a b) l) (fun v a b => ((p4 j (by omega) w).1 v a b).symm)⟩
            rw [r1]
            refine T54_sort hSt.1 (fun i j x y x' y' hne => ?_) (fun o' ho' => ⟨fun _ => ?_, fun z => absurd (by rw [r2]; exact e) z⟩)
            · obtain ⟨i1, hi1, e1⟩ := p3 i x y
              obtain ⟨j1, hj1, e2⟩ := p3 j x' y'
              rcases Int.lt_trichotomy i1 j1 with w | w | w
              · have := harr.2.2 i1 j1 hi1.1 w hj1.2
                dsimp only at this
                rw [e1, e2] at this
                exact Or.inl this
              · rw [w, e2] at e1; exact absurd e1.symm hne
              · have := harr.2.2 j1 i1 hj1.1 w hi1.2
                dsimp only at this
                rw [e1, e2] at this
                exact Or.inr this
            · rw [hrun] at hp
              have hou := arr_u ho' harr
              refine hp f' _ 0 tr R1 q.1 q.2.1 q.2.2.1 q.2.2.2.1 o' s.1 g2 _ (by simp) ?_ (by rw [r2]; exact hSt.2.2.2)
              rw [hk]
              refine ⟨rfl, hSt.1, fun i x y => ?_, fun _ v x y => ⟨(hg2 v x y).1, (hg2 v x y).2⟩⟩
              rw [hou i x y]
              have b1 := p1 i x y
              have := hSt.1
              exact ⟨by omega, (p4 i x y).1, (p4 i x y).2.1, (p4 i x y).2.2.1⟩
          · rw [r2] at e
            rw [if_neg e] at hrun
            have hk : vKept c sz ky mp at_ sp sc M n = 0 := by unfold vKept; rw [hrun, if_pos (by decide)]
            refine T54_sort (by omega) (fun i j x y => by omega) (fun o' ho' => ⟨fun z => absurd (by rw [← r2]; exact z) e, fun _ => ?_⟩)
            rw [hrun, hk] at hp
            exact hp f' _ 0 tr R1 q.1 q.2.1 q.2.2.1 q.2.2.2.1 o' 0 g2 _ (by simp) ⟨rfl, by omega, fun i x y => by omega, fun z => by omega⟩ (by rw [r2]; exact hSt.2.2.2)
        have bigS : ∀ k : Nat, u.toNat ≤ k → (vRn c sz ky mp at_ sp sc M n u.toNat).2.2.2.2.2 ≠ 0 → vRn c sz ky mp at_ sp sc M n k = vRn c sz ky mp at_ sp sc M n u.toNat := by
          intro k hk hb
          induction hk with
          | refl => rfl
          | step _ ihk => rw [vRn, ihk, if_neg hb]
        refine ⟨fun z3 => ?_, fun z3 => ⟨fun e0 => ?_, fun e0 => ?_⟩⟩
        · have : u = vUc mp at_ M n := by omega
          subst this
          rw [Int.toNat_natCast] at hR
          exact fin q hR
        · rw [hR.2.1] at e0
          have huAt := hU.at hu.1 (by omega)
          have htr := uTr_b (mp := mp) (at_ := at_) (M := M) (n := n) hu.1 (by omega) hn
          refine T54_look (tr := uTr mp at_ M n u) (sl := uSl ky mp at_ M n u) (M := M) (s := vRn c sz ky mp at_ sp sc M n u.toNat) ⟨hOK, huAt, h4, by omega, fun k _ _ => htr k, hsc, fun i x y => (hA i x y).1, fun i j x y x' y' e => ?_⟩ hn (vSt_up hSt (by omega)) hR (fun R' q' hq' => ⟨by omega, fun _ e1 => ?_⟩)
          · exact vSl_tab (T := fun k => mp (6 * uTr mp at_ M n u k)) (fun i j (ho : vOne ky mp at_ _ i j) => ho.1.symm) n i j x y x' y' e
          · subst e1
            refine ih3 (u + 1, R', q') ⟨by dsimp only; omega, ?_⟩ (by dsimp only; omega)
            dsimp only
            rw [show (u + 1).toNat = u.toNat + 1 by omega, vRn, if_pos e0, hu']
            exact hq'
        · rw [hR.2.1] at e0
          refine fin q ?_
          rw [bigS (vUc mp at_ M n) (by omega) e0]
          exact hR
      · unfold wpX54_placeOf
        rw [ep]
        have hai' := hai (by omega)
        refine ⟨by omega, fun z3 => ⟨by omega, fun _ e1 => ?_⟩, fun z3 => ⟨by omega, by omega, fun _ e1 => ⟨by omega, fun _ e2 => ?_⟩⟩⟩
        · subst e1
          refine ih2 _ (by omega) ⟨by omega, fun w x y => ⟨(hg2 w x y).1, (hg2 w x y).2.trans ⟨fun ⟨j, hj, e⟩ => ⟨j, by omega, e⟩, fun ⟨j, hj, e⟩ => ⟨j, ?_, e⟩⟩⟩⟩
          by_cases hji : j = i
          · subst hji; omega
          · omega
        · subst e1 e2
          refine ih2 _ (by omega) ⟨by omega, fun w x y => ?_⟩
          by_cases hw : w = -1 - vPl at_ i
          · rw [hw, updI_s]; exact ⟨Or.inr rfl, fun _ => ⟨i, by omega, by omega⟩, fun _ => rfl⟩
          · rw [updI_n hw]
            refine ⟨(hg2 w x y).1, (hg2 w x y).2.trans ⟨fun ⟨j, hj, e⟩ => ⟨j, by omega, e⟩, fun ⟨j, hj, e⟩ => ⟨j, ?_, e⟩⟩⟩
            by_cases hji : j = i
            · subst hji; omega
            · omega
    · subst e1 e2
      refine ih _ (by omega) ⟨by omega, fun j x y => ?_⟩
      by_cases hj : j = v
      · subst hj; exact updI_s
      · rw [updI_n hj]; exact hg j x (by omega)
noncomputable def vValT (cn : Int) (ask : Int → Prop) (i v : Int) : Prop := ((0 ≤ i ∧ i < cn) ∧ (0 ≤ v ∧ v < 6)) ∧ ¬ ask v
noncomputable def vVal (cn : Int) (sv : Int → Int → Int) (i v : Int) : Int := if (0 ≤ i ∧ i < cn) ∧ (0 ≤ v ∧ v < 6) then sv i v else -1
theorem T54_value {post : Int → Int → Prop} {cn : Int} {sv : Int → Int → Int} {sf s1 : Int → Int} {ask : Int → Prop} {a fb f1 o asked : Int → Int} {ac i v : Int} (h : tAn cn sv sf s1 ask a fb f1 o asked ac) (h1 : vValT cn ask i v → post 0 1) (h0 : ¬ vValT cn ask i v → post (vVal cn sv i v) 0) : wpX54_value post a o ac asked i v := by
  obtain ⟨rfl, hc, hr, hk⟩ := h
  unfold wpX54_value
  refine T54_isInB (fun i1 i2 => T54_isInB (fun v1 v2 => ⟨⟨v1, v2⟩, fun e => ?_, fun e => ?_⟩) (fun h => ?_)) (fun h => ?_)
  · unfold wX54_value_42
    exact ⟨fun z => absurd z (by decide), fun _ => h1 ⟨⟨⟨i1, i2⟩, v1, v2⟩, fun z => by have := (hk (by omega) v v1 v2).2.mpr z; omega⟩⟩
  · unfold wX54_value_42
    have hri := hr i i1 i2
    refine ⟨fun _ => ⟨by omega, by omega, ?_⟩, fun z => absurd (by decide) z⟩
    have hna : ¬ vValT ac ask i v := fun z => z.2 ((hk (by omega) v v1 v2).2.mp (by have := (hk (by omega) v v1 v2).1; omega))
    have := h0 hna
    unfold vVal at this
    rw [if_pos ⟨⟨i1, i2⟩, v1, v2⟩] at this
    rw [hri.2.1 v v1 v2]
    exact this
  · have := h0 (fun z => h z.1.2)
    unfold vVal at this
    rw [if_neg (fun z => h z.2)] at this
    exact this
  · have := h0 (fun z => h z.1.1)
    unfold vVal at this
    rw [if_neg (fun z => h z.1)] at this
    exact this
def vFnd (cn : Int) (sf s1 : Int → Int) (i w : Int) : Int := if (0 ≤ i ∧ i < cn) ∧ (0 ≤ w ∧ w < 2) then (if w = 0 then sf i else s1 i) else -1
theorem T54_found {post : Int → Int → Prop} {cn : Int} {sv : Int → Int → Int} {sf s1 : Int → Int} {ask : Int → Prop} {a fb f1 o asked : Int → Int} {ac i w : Int} (h : tAn cn sv sf s1 ask a fb f1 o asked ac) (hp : post (vFnd cn sf s1 i w) 0) : wpX54_found post fb f1 o ac i w := by
  obtain ⟨rfl, hc, hr, hk⟩ := h
  unfold wpX54_found
  unfold vFnd at hp
  refine T54_isInB (fun i1 i2 => T54_isInB (fun v1 v2 => ?_) (fun h => ?_)) (fun h => ?_)
  · have hri := hr i i1 i2
    rw [if_pos ⟨⟨i1, i2⟩, v1, v2⟩] at hp
    refine ⟨fun e => ⟨by omega, by omega, ?_⟩, fun e => ⟨by omega, by omega, ?_⟩⟩
    · rw [if_pos e, ← hri.2.2.1] at hp; exact hp
    · rw [if_neg e, ← hri.2.2.2] at hp; exact hp
  · rw [if_neg (fun z => h z.2)] at hp; exact hp
  · rw [if_neg (fun z => h z.1)] at hp; exact hp
