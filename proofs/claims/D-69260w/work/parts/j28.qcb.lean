/-! QlRewrite, plain: what forms find, by things given -/
/-- facts of two rows -/
def qcFa (cf rf : Int → Int) (c u v : Int) : Prop := (0 ≤ u ∧ u < 12) ∧ (((0 ≤ c ∧ c < 10) ∧ v = 0 ∧ cf (12 * c + u) = 1) ∨ ((32 ≤ c ∧ c < 40) ∧ (0 ≤ v ∧ v < 12) ∧ rf (12 * (12 * (c - 32) + u) + v) = 1))
def qcFt (g : Int → Int) (v t : Int) : Prop := v = 6 ∨ v = 7 ∨ g v < 0 ∨ g v = t
def qcUg (g : Int → Int) (v t : Int) : Int → Int := if v = 6 ∨ v = 7 then g else updI g v t
def qcFn (Fa : Int → Int → Int → Prop) (cd : Int → Int) : Nat → Int → (Int → Int) → Prop
  | 0, _, _ => True
  | p + 1, k, g => ∃ a b, Fa (cd k / 64) a b ∧ qcFt g (cd k / 8 % 8) a ∧ qcFt (qcUg g (cd k / 8 % 8) a) (cd k % 8) b ∧ qcFn Fa cd p (k + 1) (qcUg (qcUg g (cd k / 8 % 8) a) (cd k % 8) b)
/-- some fact fits an atom -/
def qcFs (Fa : Int → Int → Int → Prop) (g : Int → Int) (c : Int) : Prop := ∃ a b, Fa (c / 64) a b ∧ qcFt g (c / 8 % 8) a ∧ qcFt g (c % 8) b ∧ (¬ c / 8 % 8 = c % 8 ∨ c / 8 % 8 = 6 ∨ a = b)
/-- things for all variables -/
def qcAl (Fa : Int → Int → Int → Prop) (cd E : Int → Int) (k m : Int) : Prop := ∀ j, k ≤ j → j < m → ∃ u v, Fa (cd j / 64) u v ∧ (cd j / 8 % 8 < 6 → E (cd j / 8 % 8) = u) ∧ (cd j % 8 < 6 → E (cd j % 8) = v)
section
variable {Fa : Int → Int → Int → Prop} {cd g E : Int → Int} {k m v t z a b c : Int} {F : qFo}
theorem qcUg_e : qcUg g v t v = if v = 6 ∨ v = 7 then g v else t := by
  unfold qcUg
  split
  · rfl
  · rw [updI_s]
theorem qcUg_l (h : v < 6) : qcUg g v t v = t := by rw [qcUg_e, if_neg (by omega)]
theorem qcUg_o {w : Int} (h : ¬ w = v) : qcUg g v t w = g w := by
  unfold qcUg
  split
  · rfl
  · rw [updI_n h]
theorem qcUg_k {w : Int} (h : qcFt g v t) (hw : 0 ≤ g w) (h6 : w < 6) : qcUg g v t w = g w := by
  by_cases e : w = v
  · rw [e] at hw h6 ⊢
    rw [qcUg_l h6]
    rcases h with h | h | h | h
    · omega
    · omega
    · omega
    · exact h.symm
  · exact qcUg_o e
theorem qcFn_s (hF : ∀ c u v, Fa c u v → 0 ≤ u ∧ 0 ≤ v) : ∀ (p : Nat) (k : Int) (g : Int → Int), qcFn Fa cd p k g → ∃ E : Int → Int, (∀ v, v < 6 → 0 ≤ g v → E v = g v) ∧ qcAl Fa cd E k (k + p)
  | 0, k, g, _ => ⟨g, fun _ _ _ => rfl, fun j a b => by omega⟩
  | p + 1, k, g, h => by
    obtain ⟨a, b, h1, h2, h3, h4⟩ := h
    obtain ⟨E, e1, e2⟩ := qcFn_s hF p (k + 1) _ h4
    have nn := hF _ _ _ h1
    have ex_ : cd k / 8 % 8 < 6 → E (cd k / 8 % 8) = a := fun hx => by
      have q : qcUg g (cd k / 8 % 8) a (cd k / 8 % 8) = a := qcUg_l hx
      have q2 := qcUg_k h3 (w := cd k / 8 % 8) (by rw [q]; exact nn.1) hx
      rw [e1 _ hx (by rw [q2, q]; exact nn.1), q2, q]
    have ey_ : cd k % 8 < 6 → E (cd k % 8) = b := fun hy => by
      have q : qcUg (qcUg g (cd k / 8 % 8) a) (cd k % 8) b (cd k % 8) = b := qcUg_l hy
      rw [e1 _ hy (by rw [q]; exact nn.2), q]
    refine ⟨E, fun v hv h0 => ?_, fun j j0 j1 => ?_⟩
    · have q1 := qcUg_k h2 h0 hv
      have q2 := qcUg_k h3 (w := v) (by rw [q1]; exact h0) hv
      rw [e1 v hv (by rw [q2, q1]; exact h0), q2, q1]
    · by_cases y : j = k
      · rw [y]; exact ⟨a, b, h1, ex_, ey_⟩
      · exact e2 j (by omega) (by omega)
theorem qcFn_c : ∀ (p : Nat) (k : Int) (g : Int → Int), (∀ v, 0 ≤ v → v < 6 → 0 ≤ g v → E v = g v) → qcAl Fa cd E k (k + p) → qcFn Fa cd p k g
  | 0, _, _, _, _ => trivial
  | p + 1, k, g, h, H => by
    obtain ⟨u, v, f, fx, fy⟩ := H k (Int.le_refl _) (by omega)
    have st : ∀ (g : Int → Int) (w t : Int), 0 ≤ w → w < 8 → (∀ v, 0 ≤ v → v < 6 → 0 ≤ g v → E v = g v) → (w < 6 → E w = t) → qcFt g w t ∧ ∀ v, 0 ≤ v → v < 6 → 0 ≤ qcUg g w t v → E v = qcUg g w t v := fun g w t w0 w8 hg hw => by
      refine ⟨?_, fun v v0 v6 hv => ?_⟩
      · by_cases z6 : w = 6
        · exact Or.inl z6
        · by_cases z7 : w = 7
          · exact Or.inr (Or.inl z7)
          · by_cases zn : g w < 0
            · exact Or.inr (Or.inr (Or.inl zn))
            · exact Or.inr (Or.inr (Or.inr ((hg w w0 (by omega) (by omega)).symm.trans (hw (by omega)))))
      · by_cases e : v = w
        · rw [e] at v6 ⊢
          rw [qcUg_l v6]; exact hw v6
        · rw [qcUg_o e] at hv ⊢
          exact hg v v0 v6 hv
    obtain ⟨s1, s2⟩ := st g (cd k / 8 % 8) u (by omega) (by omega) h fx
    obtain ⟨s3, s4⟩ := st _ (cd k % 8) v (by omega) (by omega) s2 fy
    exact ⟨u, v, f, s1, s3, qcFn_c p (k + 1) _ s4 (fun j j0 j1 => H j (by omega) (by omega))⟩
theorem qcFs_of (h : ∀ v, 0 ≤ v → v < 6 → 0 ≤ g v → E v = g v) (H : ∃ u v, Fa (c / 64) u v ∧ (c / 8 % 8 < 6 → E (c / 8 % 8) = u) ∧ (c % 8 < 6 → E (c % 8) = v)) (h7 : ¬ c / 8 % 8 = 7) : qcFs Fa g c := by
  obtain ⟨u, v, f, fx, fy⟩ := H
  have st : ∀ w t : Int, 0 ≤ w → w < 8 → (w < 6 → E w = t) → qcFt g w t := fun w t w0 w8 hw => by
    by_cases z6 : w = 6
    · exact Or.inl z6
    · by_cases z7 : w = 7
      · exact Or.inr (Or.inl z7)
      · by_cases zn : g w < 0
        · exact Or.inr (Or.inr (Or.inl zn))
        · exact Or.inr (Or.inr (Or.inr ((h w w0 (by omega) (by omega)).symm.trans (hw (by omega)))))
  refine ⟨u, v, f, st _ _ (by omega) (by omega) fx, st _ _ (by omega) (by omega) fy, ?_⟩
  by_cases e : c / 8 % 8 = c % 8
  · by_cases e6 : c / 8 % 8 = 6
    · exact Or.inr (Or.inl e6)
    · have l : c / 8 % 8 < 6 := by omega
      exact Or.inr (Or.inr (by rw [← fx l, ← fy (by omega), e]))
  · exact Or.inl e
/-- what is given at the start -/
def qcG0 (F : qFo) (z : Int) : Int → Int := fun v => if 0 ≤ F.2.1 ∧ v = F.2.1 then z % 16 else if 0 ≤ F.1 ∧ v = F.1 then z / 16 else -1
/-- answers of a question -/
def qcIa (q z : Int) : Prop := 0 ≤ z ∧ z / 16 < (if 0 < q then 12 else 1) ∧ z % 16 < (if 1 < q then 12 else 1)
/-- whether a form's answers are the question's -/
def qcAq (q : Int) (F : qFo) : Prop := (F.1 < 0 ↔ q ≤ 0) ∧ (F.2.1 < 0 ↔ q ≤ 1) ∧ -1 ≤ F.1 ∧ -1 ≤ F.2.1
theorem qcAns_i {q : Int} {cf rf : Int → Int} (hq : qcAq q F) (h6 : F.1 < 6 ∧ F.2.1 < 6) (h : qAns (qcFa cf rf) F z) : qcIa q z ∧ (0 ≤ F.1 → 0 ≤ z / 16 ∧ z / 16 < 12) ∧ (0 ≤ F.2.1 → 0 ≤ z % 16 ∧ z % 16 < 12) := by
  obtain ⟨g, h1, ⟨h2, h3⟩, h4⟩ := h
  have bd : ∀ v, 0 ≤ v → v < 6 → qSd F v → 0 ≤ g v ∧ g v < 12 := fun v v0 v6 hs => by
    rcases hs with hs | ⟨c, hc, e⟩
    · omega
    · obtain ⟨u, w, f, fx, fy⟩ := h1 c hc
      unfold qcFa at f
      rcases e with e | e
      · rw [← e, fx (by omega)]; exact f.1
      · rw [← e, fy (by omega)]; omega
  have b1 : 0 ≤ F.1 → 0 ≤ g F.1 ∧ g F.1 < 12 := fun h => bd _ h h6.1 h2
  have b2 : 0 ≤ F.2.1 → 0 ≤ g F.2.1 ∧ g F.2.1 < 12 := fun h => bd _ h h6.2 h3
  have q1 := hq.1
  have q2 := hq.2.1
  unfold qcIa
  by_cases z1 : F.1 < 0
  · rw [if_pos z1] at h4
    by_cases z2 : F.2.1 < 0
    · rw [if_pos z2] at h4
      rw [if_neg (by omega), if_neg (by omega)]; omega
    · rw [if_neg z2] at h4
      have := b2 (by omega)
      rw [if_neg (by omega), if_pos (by omega)]; omega
  · rw [if_neg z1] at h4
    have := b1 (by omega)
    by_cases z2 : F.2.1 < 0
    · rw [if_pos z2] at h4
      rw [if_pos (by omega), if_neg (by omega)]; omega
    · rw [if_neg z2] at h4
      have := b2 (by omega)
      rw [if_pos (by omega), if_pos (by omega)]; omega
theorem qcAns {q : Int} {cf rf : Int → Int} (hq : qcAq q F) (h6 : F.1 < 6 ∧ F.2.1 < 6) (hz : qcIa q z) (hc : ∀ k, 0 ≤ k → k < (F.2.2.length : Int) → cd k = F.2.2.getD k.toNat 0) : qAns (qcFa cf rf) F z ↔ (0 ≤ F.2.1 → F.2.1 = F.1 → z / 16 = z % 16) ∧ (qSd F F.1 ∧ qSd F F.2.1) ∧ qcFn (qcFa cf rf) cd F.2.2.length 0 (qcG0 F z) := by
  have hF : ∀ c u v, qcFa cf rf c u v → 0 ≤ u ∧ 0 ≤ v := fun c u v f => by
    unfold qcFa at f; omega
  have q1 := hq.1
  have q2 := hq.2.1
  unfold qcIa at hz
  constructor
  · intro h
    obtain ⟨_, r1, r2⟩ := qcAns_i hq h6 h
    obtain ⟨g, h1, h2, h4⟩ := h
    have bd : ∀ v, 0 ≤ v → v < 6 → qSd F v → 0 ≤ g v ∧ g v < 12 := fun v v0 v6 hs => by
      rcases hs with hs | ⟨c, hc, e⟩
      · omega
      · obtain ⟨u, w, f, fx, fy⟩ := h1 c hc
        unfold qcFa at f
        rcases e with e | e
        · rw [← e, fx (by omega)]; exact f.1
        · rw [← e, fy (by omega)]; omega
    have e1 : 0 ≤ F.1 → g F.1 = z / 16 := fun h => by
      have := bd _ h h6.1 h2.1
      rw [if_neg (by omega)] at h4
      by_cases y : F.2.1 < 0
      · rw [if_pos y] at h4; omega
      · rw [if_neg y] at h4
        have := bd _ (by omega) h6.2 h2.2
        omega
    have e2 : 0 ≤ F.2.1 → g F.2.1 = z % 16 := fun h => by
      have := bd _ h h6.2 h2.2
      rw [if_neg (show ¬ F.2.1 < 0 by omega)] at h4
      by_cases y : F.1 < 0
      · rw [if_pos y] at h4; omega
      · rw [if_neg y] at h4
        have := bd _ (by omega) h6.1 h2.1
        omega
    refine ⟨fun h e => ?_, h2, qcFn_c (E := g) _ _ _ (fun v v0 v6 hv => ?_) (fun j j0 j1 => ?_)⟩
    · rw [← e2 h, e, e1 (by omega)]
    · unfold qcG0 at hv ⊢
      by_cases y : 0 ≤ F.2.1 ∧ v = F.2.1
      · rw [if_pos y, y.2]; exact e2 y.1
      · rw [if_neg y] at hv ⊢
        by_cases y1 : 0 ≤ F.1 ∧ v = F.1
        · rw [if_pos y1, y1.2]; exact e1 y1.1
        · rw [if_neg y1] at hv; omega
    · rw [hc j j0 (by omega)]
      exact h1 _ (gD_mem (by omega))
  · rintro ⟨h1, h2, h3⟩
    obtain ⟨E, e1, e2⟩ := qcFn_s hF _ _ _ h3
    refine ⟨E, fun c hc' => ?_, h2, ?_⟩
    · obtain ⟨t, ht, et⟩ := gD_ex (d := 0) hc'
      have := e2 (t : Int) (by omega) (by omega)
      rw [hc _ (by omega) (by omega), show ((t : Int)).toNat = t by omega, et] at this
      exact this
    · have g1 : 0 ≤ F.1 → E F.1 = z / 16 := fun h => by
        have v : qcG0 F z F.1 = z / 16 := by
          unfold qcG0
          by_cases y : 0 ≤ F.2.1 ∧ F.1 = F.2.1
          · rw [if_pos y]; exact (h1 y.1 y.2.symm).symm
          · rw [if_neg y, if_pos ⟨h, rfl⟩]
        rw [e1 F.1 h6.1 (by rw [v]; omega), v]
      have g2 : 0 ≤ F.2.1 → E F.2.1 = z % 16 := fun h => by
        have v : qcG0 F z F.2.1 = z % 16 := by
          unfold qcG0
          rw [if_pos ⟨h, rfl⟩]
        rw [e1 F.2.1 h6.2 (by rw [v]; omega), v]
      by_cases y1 : F.1 < 0
      · rw [if_pos y1]
        have a1 := hz.2.1
        rw [if_neg (by omega)] at a1
        by_cases y2 : F.2.1 < 0
        · rw [if_pos y2]
          have a2 := hz.2.2
          rw [if_neg (by omega)] at a2
          omega
        · rw [if_neg y2, g2 (by omega)]; omega
      · rw [if_neg y1, g1 (by omega)]
        by_cases y2 : F.2.1 < 0
        · rw [if_pos y2]
          have a2 := hz.2.2
          rw [if_neg (by omega)] at a2
          omega
        · rw [if_neg y2, g2 (by omega)]; omega
end
