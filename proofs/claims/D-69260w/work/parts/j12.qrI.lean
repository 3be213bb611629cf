/-! QlRewrite, the reference (X56): what forms find -/
section
variable (fn fa fb : Int → Int) (nf : Int)
/-- what is given when a fact stands for an atom (code c) -/
def qG1 (c r : Int) (G : Int → Int) : Int → Int := if c / 8 % 8 < 6 then updI G (c / 8 % 8) (fa r) else G
def qG2 (c r : Int) (G : Int → Int) : Int → Int := if c % 8 < 6 then updI (qG1 fa c r G) (c % 8) (fb r) else qG1 fa c r G
def qOk (c r : Int) (G : Int → Int) : Prop := fn r = c / 64 ∧ (c / 8 % 8 < 6 → G (c / 8 % 8) < 0 ∨ G (c / 8 % 8) = fa r) ∧ (c % 8 < 6 → qG1 fa c r G (c % 8) < 0 ∨ qG1 fa c r G (c % 8) = fb r)
/-- the answers that are noted from code k on, p codes being left -/
def qMx (one two : Int) (fc : Int → Int) : Nat → Int → (Int → Int) → Int → Prop
  | 0, _, G, z => ∃ u v, (u = if one < 0 then 0 else G one) ∧ (v = if two < 0 then 0 else G two) ∧ 0 ≤ u ∧ 0 ≤ v ∧ z = 16 * u + v
  | p + 1, k, G, z => ∃ r, (0 ≤ r ∧ r < nf) ∧ qOk fn fa fb (fc k) r G ∧ qMx one two fc p (k + 1) (qG2 fa fb (fc k) r G) z
/-- the same from row r of code k on -/
def qMr (one two : Int) (fc : Int → Int) (p : Nat) (k r : Int) (G : Int → Int) (z : Int) : Prop := ∃ r', (r < r' ∧ 0 ≤ r' ∧ r' < nf) ∧ qOk fn fa fb (fc k) r' G ∧ qMx fn fa fb nf one two fc p (k + 1) (qG2 fa fb (fc k) r' G) z
end
/-- answers are noted for form x -/
def qNt (x : Int) (P : Int → Prop) (fo fo' : Int → Int) : Prop := ∀ z, fo' z = pif (fo z < 0 ∧ P z) x (fo z)
section
variable {fn fa fb fo fo' fo'' th rw_ sA sB fs ff fg fc G E g : Int → Int} {nf c k r x m one two z : Int} {P Q R : Int → Prop}
theorem qNt_0 (h : ∀ z, ¬ P z) : qNt x P fo fo := fun z => (pif_f (fun w => h z w.2)).symm
theorem qNt_t (hx : 0 ≤ x) (h : qNt x P fo fo') (g : qNt x Q fo' fo'') (e : ∀ z, R z ↔ P z ∨ Q z) : qNt x R fo fo'' := fun z => by
  have h' := h z
  have g' := g z
  generalize fo' z = u at h' g'
  by_cases a : fo z < 0
  · by_cases p : P z
    · rw [pif_t ⟨a, p⟩] at h'
      rw [pif_f (fun w : u < 0 ∧ Q z => by omega), h'] at g'
      rw [g', pif_t ⟨a, (e z).2 (Or.inl p)⟩]
    · rw [pif_f (fun w : fo z < 0 ∧ P z => p w.2)] at h'
      rw [h'] at g'
      by_cases q : Q z
      · rw [pif_t ⟨a, q⟩] at g'
        rw [g', pif_t ⟨a, (e z).2 (Or.inr q)⟩]
      · rw [pif_f (fun w : fo z < 0 ∧ Q z => q w.2)] at g'
        rw [g', pif_f (fun w => ((e z).1 w.2).elim p q)]
  · rw [pif_f (fun w : fo z < 0 ∧ P z => a w.1)] at h'
    rw [h', pif_f (fun w : fo z < 0 ∧ Q z => a w.1)] at g'
    rw [g', pif_f (fun w => a w.1)]
theorem updI_id {f : Int → Int} {i : Int} : updI f i (f i) = f := funext fun j => by
  rw [updI_e]
  by_cases q : j = i
  · rw [if_pos q, q]
  · rw [if_neg q]
theorem updI_2 {f : Int → Int} {i v w : Int} : updI (updI f i v) i w = updI f i w := funext fun j => by
  rw [updI_e, updI_e, updI_e]
  split <;> rfl
theorem T56_takes {post : Int → (Int → Int) → (Int → Int) → (Int → Int) → Prop} (hc : 0 ≤ c) (hk : 0 ≤ k ∧ k < 4) (hr : 0 ≤ r ∧ r < 61)
  (h0 : ¬ qOk fn fa fb c r G → ∀ sA' sB', (∀ j, ¬ j = k → sA' j = sA j ∧ sB' j = sB j) → post 0 G sA' sB')
  (h1 : qOk fn fa fb c r G → ∀ sA' sB', (∀ j, ¬ j = k → sA' j = sA j ∧ sB' j = sB j) → (c / 8 % 8 < 6 → sA' k = G (c / 8 % 8)) → (c % 8 < 6 → sB' k = qG1 fa c r G (c % 8)) → post 1 (qG2 fa fb c r G) sA' sB') : wpX56_takes post fn fa fb G sA sB c k r := by
  unfold wpX56_takes
  refine ⟨hc, by omega, fun X eX Y eY => ⟨by omega, fun q => ?_, fun q => h0 (fun w => q w.1) sA sB (fun _ _ => ⟨rfl, rfl⟩)⟩⟩
  unfold qOk at h0 h1
  have t188 : ∀ sA' sB', (∀ j, ¬ j = k → sA' j = sA j ∧ sB' j = sB j) → (X < 6 → sA' k = G X) → (Y < 6 → sB' k = qG1 fa c r G Y) → (X < 6 → G X < 0 ∨ G X = fa r) → (Y < 6 → qG1 fa c r G Y < 0 ∨ qG1 fa c r G Y = fb r) → wX56_takes_188 post r Y fb (qG1 fa c r G) sA' sB' := fun sA' sB' a1 a2 a3 a4 a5 => by
    unfold wX56_takes_188
    have H := h1 ⟨q, by rw [← eX]; exact a4, by rw [← eY]; exact a5⟩ sA' sB' a1 (by rw [← eX]; exact a2) (by rw [← eY]; exact a3)
    unfold qG2 at H
    rw [← eY] at H
    refine ⟨fun w => ?_, fun w => ⟨by omega, fun _ e1 => ⟨by omega, fun _ e2 => ?_⟩⟩⟩
    · rw [if_neg (by omega)] at H; exact H
    · rw [if_pos (by omega)] at H
      rw [e2, e1]; exact H
  have t132 : ∀ sA' y2, (∀ j, ¬ j = k → sA' j = sA j) → (X < 6 → sA' k = G X) → (Y < 6 → y2 = qG1 fa c r G Y) → (X < 6 → G X < 0 ∨ G X = fa r) → wX56_takes_132 post k r X Y k y2 fb (qG1 fa c r G) sA' sB := fun sA' y2 a1 a2 a3 a4 => by
    unfold wX56_takes_132
    refine ⟨hk, fun sB' eB => ?_⟩
    have b1 : ∀ j, ¬ j = k → sA' j = sA j ∧ sB' j = sB j := fun j ne => ⟨a1 j ne, by rw [eB, updI_n ne]⟩
    have b3 : Y < 6 → sB' k = qG1 fa c r G Y := fun w => by rw [eB, updI_s]; exact a3 w
    refine ⟨fun w => t188 sA' sB' b1 a2 b3 a4 (fun w2 => by omega), fun w => ⟨by omega, fun u => t188 sA' sB' b1 a2 b3 a4 (fun _ => Or.inl u), fun u => ⟨by omega, fun v => t188 sA' sB' b1 a2 b3 a4 (fun _ => Or.inr v), fun v => ⟨fun w2 => ?_, fun w2 => ⟨hk, fun _ e1 => ⟨by omega, fun _ e2 => ?_⟩⟩⟩⟩⟩⟩
    · have H := h0 (fun h => by
        have := h.2.2
        rw [← eY] at this
        exact (this (by omega)).elim u v) sA' sB' b1
      have eg : qG1 fa c r G = G := if_neg (by rw [← eX]; omega)
      rw [eg]; exact H
    · have H := h0 (fun h => by
        have := h.2.2
        rw [← eY] at this
        exact (this (by omega)).elim u v) sA' sB' b1
      have eg : qG1 fa c r G = updI G X (fa r) := by
        unfold qG1
        rw [← eX, if_pos (by omega)]
      rw [e2, e1, a2 (by omega), eg, updI_2, updI_id]; exact H
  have t89 : ∀ sA', (∀ j, ¬ j = k → sA' j = sA j) → (X < 6 → sA' k = G X) → (X < 6 → G X < 0 ∨ G X = fa r) → wX56_takes_89 post k r X Y fa fb G sA' sB := fun sA' a1 a2 a4 => by
    unfold wX56_takes_89
    refine ⟨fun w => ?_, fun w => ⟨by omega, fun _ e1 => ⟨by omega, fun G' eG => ?_⟩⟩⟩
    · have eg : qG1 fa c r G = G := if_neg (by rw [← eX]; omega)
      rw [eg] at t132
      exact ⟨fun w2 => t132 sA' _ a1 a2 (fun w3 => by omega) a4, fun w2 => ⟨by omega, t132 sA' _ a1 a2 (fun _ => rfl) a4⟩⟩
    · have eg : qG1 fa c r G = G' := by
        unfold qG1
        rw [← eX, if_pos (by omega), eG, e1]
      rw [eg] at t132
      exact ⟨fun w2 => t132 sA' _ a1 a2 (fun w3 => by omega) a4, fun w2 => ⟨by omega, t132 sA' _ a1 a2 (fun _ => rfl) a4⟩⟩
  have t53 : ∀ y2, (X < 6 → y2 = G X) → wX56_takes_53 post k r X Y k y2 fa fb G sA sB := fun y2 hy => by
    unfold wX56_takes_53
    refine ⟨hk, fun sA' eA => ?_⟩
    have a1 : ∀ j, ¬ j = k → sA' j = sA j := fun j ne => by rw [eA, updI_n ne]
    have a2 : X < 6 → sA' k = G X := fun w => by rw [eA, updI_s]; exact hy w
    refine ⟨fun w => t89 sA' a1 a2 (fun w2 => by omega), fun w => ⟨by omega, fun u => t89 sA' a1 a2 (fun _ => Or.inl u), fun u => ⟨by omega, fun v => t89 sA' a1 a2 (fun _ => Or.inr v), fun v => ?_⟩⟩⟩
    refine h0 (fun h => ?_) sA' sB (fun j ne => ⟨a1 j ne, rfl⟩)
    have := h.2.1
    rw [← eX] at this
    exact (this (by omega)).elim u v
  exact ⟨fun w => t53 _ (fun w2 => by omega), fun w => ⟨by omega, t53 _ (fun _ => rfl)⟩⟩
theorem T56_undo {post : (Int → Int) → Prop} (hc : 0 ≤ c) (hk : 0 ≤ k ∧ k < 4) (hA : c / 8 % 8 < 6 → sA k = G (c / 8 % 8)) (hB : c % 8 < 6 → sB k = qG1 fa c r G (c % 8)) (hp : post G) : wpX56_undo post (qG2 fa fb c r G) sA sB c k := by
  have u24 : wX56_undo_24 post c k (qG1 fa c r G) sA := by
    unfold wX56_undo_24
    refine ⟨hc, by omega, fun w => ?_, fun w => ⟨hk, fun _ e1 => ⟨by omega, fun _ e2 => ?_⟩⟩⟩
    · have eg : qG1 fa c r G = G := if_neg (by omega)
      rw [eg]; exact hp
    · have eg : qG1 fa c r G = updI G (c / 8 % 8) (fa r) := if_pos (by omega)
      rw [e2, e1, hA (by omega), eg, updI_2, updI_id]; exact hp
  unfold wpX56_undo
  refine ⟨hc, fun w => ?_, fun w => ⟨hk, fun _ e1 => ⟨by omega, fun _ e2 => ?_⟩⟩⟩
  · have eg : qG2 fa fb c r G = qG1 fa c r G := if_neg (by omega)
    rw [eg]; exact u24
  · have eg : qG2 fa fb c r G = updI (qG1 fa c r G) (c % 8) (fb r) := if_pos (by omega)
    rw [e2, e1, hB (by omega), eg, updI_2, updI_id]; exact u24
/-- the next fact that fits -/
theorem T56_f70 {K : (Int → Int) → (Int → Int) → (Int → Int) → (Int → Int) → Prop} (hc : 0 ≤ c) (hk : 0 ≤ k ∧ k < 4) (hnf : 0 ≤ nf ∧ nf ≤ 60) (hr : 0 ≤ r ∧ r ≤ nf) (er : rw_ k = r)
  (hK : ∀ r' rw' sA' sB', (r ≤ r' ∧ r' ≤ nf) → (∀ i, r ≤ i → i < r' → ¬ qOk fn fa fb c i G) → rw' k = r' → (∀ j, ¬ j = k → rw' j = rw_ j ∧ sA' j = sA j ∧ sB' j = sB j) → (r' = nf → K G rw' sA' sB') ∧ (r' < nf → qOk fn fa fb c r' G → (c / 8 % 8 < 6 → sA' k = G (c / 8 % 8)) → (c % 8 < 6 → sB' k = qG1 fa c r' G (c % 8)) → K (qG2 fa fb c r' G) rw' sA' sB')) : ∃ fu : Nat, wX56_find_70 K k c fn fa fb nf fu G rw_ sA sB := by
  refine wl3 (fun fu w a b => wX56_find_70 K k c fn fa fb nf fu G w a b) (fun w a b => (r ≤ w k ∧ w k ≤ nf) ∧ (∀ i, r ≤ i → i < w k → ¬ qOk fn fa fb c i G) ∧ ∀ j, ¬ j = k → w j = rw_ j ∧ a j = sA j ∧ b j = sB j) (fun w _ _ => (nf - w k).toNat) ?_ rw_ sA sB ⟨by omega, fun i i0 i1 => by omega, fun _ _ => ⟨rfl, rfl, rfl⟩⟩
  rintro w a b ⟨hw, hno, hj⟩ f ih
  rw [wX56_find_70]
  refine ⟨hk, fun y => (hK (w k) w a b hw hno rfl hj).1 (by omega), fun y => T56_takes hc hk (by omega) (fun no sA' sB' q => ⟨fun _ => ⟨by omega, fun _ e1 _ e2 => ?_⟩, fun z => absurd rfl z⟩) (fun yes sA' sB' q qA qB => ⟨fun z => absurd z (by decide), fun _ => (hK (w k) w sA' sB' hw hno rfl (fun j ne => ⟨(hj j ne).1, (q j ne).1.trans (hj j ne).2.1, (q j ne).2.trans (hj j ne).2.2⟩)).2 (by omega) yes qA qB⟩)⟩
  rw [e2, e1]
  refine ih _ _ _ ⟨by rw [updI_s]; omega, fun i i0 i1 => ?_, fun j ne => ⟨by rw [updI_n ne]; exact (hj j ne).1, (q j ne).1.trans (hj j ne).2.1, (q j ne).2.trans (hj j ne).2.2⟩⟩ (by rw [updI_s]; omega)
  rw [updI_s] at i1
  by_cases p : i = w k
  · rw [p]; exact no
  · exact hno i i0 (by omega)
theorem T56_note {post : (Int → Int) → Prop} (hx : 0 ≤ x ∧ x < 90) (h1 : ff x < 6 ∧ fg x < 6) (hG : ∀ v, 0 ≤ v → v < 6 → G v < 12) (hp : ∀ fo', qNt x (qMx fn fa fb nf (ff x) (fg x) fc 0 k G) fo fo' → post fo') : wpX56_note post ff fg fo G x := by
  have n49 : ∀ u v, (u = if ff x < 0 then 0 else G (ff x)) → (v = if fg x < 0 then 0 else G (fg x)) → wX56_note_49 post x u v fo := fun u v eu ev => by
    have ub : u < 12 := by
      rw [eu]
      split
      · decide
      · exact hG _ (by omega) h1.1
    have vb : v < 12 := by
      rw [ev]
      split
      · decide
      · exact hG _ (by omega) h1.2
    unfold wX56_note_49
    have no : (u < 0 ∨ v < 0) → post fo := fun h => hp fo (qNt_0 (fun z => by
      rintro ⟨u', v', e1, e2, b1, b2, _⟩
      rw [← eu] at e1
      rw [← ev] at e2
      omega))
    have iff' : 0 ≤ u → 0 ≤ v → ∀ z, qMx fn fa fb nf (ff x) (fg x) fc 0 k G z ↔ z = 16 * u + v := fun u0 v0 z => by
      constructor
      · rintro ⟨u', v', e1, e2, _, _, e3⟩
        rw [← eu] at e1
        rw [← ev] at e2
        rw [e3, e1, e2]
      · intro e
        exact ⟨u, v, eu, ev, u0, v0, e⟩
    refine ⟨fun w => no (Or.inl w), fun w => ⟨fun w2 => no (Or.inr w2), fun w2 => ⟨by omega, fun w3 => ?_, fun w3 => fun _ e => ?_⟩⟩⟩
    · refine hp fo (fun z => ?_)
      rw [iff' (by omega) (by omega)]
      by_cases q : z = 16 * u + v
      · rw [pif_f (fun y => by rw [q] at y; omega)]
      · rw [pif_f (fun y => q y.2)]
    · rw [e]
      refine hp _ (fun z => ?_)
      rw [iff' (by omega) (by omega), updI_e]
      by_cases q : z = 16 * u + v
      · rw [if_pos q, pif_t ⟨by rw [q]; omega, q⟩]
      · rw [if_neg q, pif_f (fun y => q y.2)]
  have n24 : ∀ u, (u = if ff x < 0 then 0 else G (ff x)) → wX56_note_24 post x u fg fo G := fun u eu => by
    unfold wX56_note_24
    exact ⟨hx, fun w => ⟨by omega, n49 u _ eu (by rw [if_neg (by omega)])⟩, fun w => n49 u 0 eu (by rw [if_pos (by omega)])⟩
  unfold wpX56_note
  exact ⟨hx, fun w => ⟨by omega, n24 _ (by rw [if_neg (by omega)])⟩, fun w => n24 0 (by rw [if_pos (by omega)])⟩
end
