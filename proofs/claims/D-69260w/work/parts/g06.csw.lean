/-! ClassifySort: what is known and its closure; the reference (X52): going over once -/
/-- classes and Nothing (20) -/
def csH (n b : Int) : Prop := (0 ≤ b ∧ b < n) ∨ b = 20
/-- what is told of single classes -/
def csTo (L O R Th : Int → Int) (m a b : Int) : Prop := ∃ k, (0 ≤ k ∧ k < m) ∧ ¬ Th k = 0 ∧ L k = a ∧ O k = -1 ∧ R k = b
/-- below, as a state has it (at 21 a + b) -/
def csB (s : Int → Int) (a b : Int) : Prop := a = 20 ∨ s (21 * a + b) = 1
/-- the least relation that holds what is known and what is told, and goes on -/
def csY (n : Int) (B : Int → Int → Prop) (a b : Int) : Prop := ∀ Q : Int → Int → Prop, (∀ x y, csH n x → csH n y → B x y → Q x y) → (∀ x y z, csH n x → csH n y → csH n z → Q x y → Q y z → Q x z) → Q a b
theorem csY_b {n x y : Int} {B : Int → Int → Prop} (hx : csH n x) (hy : csH n y) (h : B x y) : csY n B x y := fun _ q _ => q x y hx hy h
theorem csY_t {n x y z : Int} {B : Int → Int → Prop} (hx : csH n x) (hy : csH n y) (hz : csH n z) (h : csY n B x y) (h' : csY n B y z) : csY n B x z := fun Q q1 q2 => q2 x y z hx hy hz (h Q q1 q2) (h' Q q1 q2)
theorem csY_m {n : Int} {B B' : Int → Int → Prop} (h : ∀ x y, csH n x → csH n y → B x y → csY n B' x y) {a b : Int} (y : csY n B a b) : csY n B' a b := y (csY n B') h (fun _ _ _ hx hy hz => csY_t hx hy hz)
/-- where closing begins -/
def csB0 (L O R Th : Int → Int) (m : Int) (s : Int → Int) (a b : Int) : Prop := a = b ∨ a = 20 ∨ s (21 * a + b) = 1 ∨ csTo L O R Th m a b
/-- how much is left to be known -/
noncomputable def csMu (s : Int → Int) : Int := cntI (fun x => ¬ s x = 1) 420 + cntI (fun x => ¬ s x = 1 ∧ ¬ s x = 0) 420
theorem csMu_b {s : Int → Int} : 0 ≤ csMu s ∧ csMu s ≤ 840 := by
  have a := cntI_b (fun x => ¬ s x = 1) 420
  have b := cntI_b (fun x => ¬ s x = 1 ∧ ¬ s x = 0) 420
  unfold csMu; omega
theorem csMu_1 {s : Int → Int} {x : Int} (hx : 0 ≤ x ∧ x < 420) (h : ¬ s x = 1) : csMu (updI s x 1) < csMu s := by
  have a := cntI_u (p := fun y => ¬ updI s x 1 y = 1) (q := fun y => ¬ s y = 1) (x0 := x) hx.1 (by show ¬ ¬ updI s x 1 x = 1; rw [updI_s]; exact fun q => q rfl) h (fun y hy => by show ¬ updI s x 1 y = 1 ↔ ¬ s y = 1; rw [updI_n hy]) 420
  rw [if_pos (by omega)] at a
  have b : cntI (fun y => ¬ updI s x 1 y = 1 ∧ ¬ updI s x 1 y = 0) 420 ≤ cntI (fun y => ¬ s y = 1 ∧ ¬ s y = 0) 420 := by
    by_cases z : s x = 0
    · refine Int.le_of_eq (cntI_c (fun y _ _ => ?_))
      by_cases e : y = x
      · subst e; rw [updI_s]; exact ⟨fun q => absurd rfl q.1, fun q => absurd z q.2⟩
      · rw [updI_n e]
    · have c := cntI_u (p := fun y => ¬ updI s x 1 y = 1 ∧ ¬ updI s x 1 y = 0) (q := fun y => ¬ s y = 1 ∧ ¬ s y = 0) (x0 := x) hx.1 (by show ¬ (¬ updI s x 1 x = 1 ∧ _); rw [updI_s]; exact fun q => q.1 rfl) ⟨h, z⟩ (fun y hy => by show (¬ updI s x 1 y = 1 ∧ ¬ updI s x 1 y = 0) ↔ (¬ s y = 1 ∧ ¬ s y = 0); rw [updI_n hy]) 420
      rw [if_pos (by omega)] at c
      omega
  unfold csMu; omega
theorem csMu_0 {s : Int → Int} {x : Int} (hx : 0 ≤ x ∧ x < 420) (h : ¬ s x = 1) (h0 : ¬ s x = 0) : csMu (updI s x 0) < csMu s := by
  have b := cntI_u (p := fun y => ¬ updI s x 0 y = 1 ∧ ¬ updI s x 0 y = 0) (q := fun y => ¬ s y = 1 ∧ ¬ s y = 0) (x0 := x) hx.1 (by show ¬ (_ ∧ ¬ updI s x 0 x = 0); rw [updI_s]; exact fun q => q.2 rfl) ⟨h, h0⟩ (fun y hy => by show (¬ updI s x 0 y = 1 ∧ ¬ updI s x 0 y = 0) ↔ (¬ s y = 1 ∧ ¬ s y = 0); rw [updI_n hy]) 420
  rw [if_pos (by omega)] at b
  have a : cntI (fun y => ¬ updI s x 0 y = 1) 420 = cntI (fun y => ¬ s y = 1) 420 := cntI_c (fun y _ _ => by
    by_cases e : y = x
    · subst e; rw [updI_s]; exact ⟨fun _ => h, fun _ => by decide⟩
    · rw [updI_n e])
  unfold csMu; omega
/-- one going over: how flag and state go on -/
def csF (x : Int) (s : Int → Int) (x' : Int) (s' : Int → Int) : Prop := (x' = 0 ∨ x' = 1) ∧ csMu s' ≤ csMu s ∧ (x' = 1 → x = 1 ∨ csMu s' < csMu s) ∧ (x' = 0 → x = 0 ∧ s' = s)
theorem csF.r {x : Int} {s : Int → Int} (h : x = 0 ∨ x = 1) : csF x s x s := ⟨h, Int.le_refl _, fun q => Or.inl q, fun q => ⟨q, rfl⟩⟩
theorem csF.t {x x' x'' : Int} {s s' s'' : Int → Int} (h : csF x s x' s') (h' : csF x' s' x'' s'') : csF x s x'' s'' := by
  obtain ⟨a, b, d, e⟩ := h
  obtain ⟨a', b', d', e'⟩ := h'
  refine ⟨a', by omega, fun q => ?_, fun q => ?_⟩
  · rcases d' q with w | w
    · rcases d w with w | w
      · exact Or.inl w
      · exact Or.inr (by omega)
    · exact Or.inr (by omega)
  · have w := e' q
    have w2 := e w.1
    exact ⟨w2.1, w.2.trans w2.2⟩
section
variable {n a b : Int} {I : (Int → Int) → Prop}
theorem T52_hereB {P Q : Prop} {n b : Int} (hb : 0 ≤ b) (h1 : csH n b → Q) (h0 : ¬ csH n b → P) : wpX52_isHere (fun r => (r = 0 → P) ∧ (¬ r = 0 → Q)) n b := by
  unfold wpX52_isHere
  unfold csH at h1 h0
  exact ⟨fun e => ⟨fun q => absurd q (by decide), fun _ => h1 (Or.inl ⟨hb, e⟩)⟩, fun e => ⟨fun e2 => ⟨fun q => absurd q (by decide), fun _ => h1 (Or.inr e2)⟩, fun e2 => ⟨fun _ => h0 (by omega), fun q => absurd rfl q⟩⟩⟩
theorem T52_belowB {P Q : Prop} {s : Int → Int} (ha : 0 ≤ a ∧ a ≤ 20) (hb : 0 ≤ b ∧ b ≤ 20) (h1 : csB s a b → Q) (h0 : ¬ csB s a b → P) : wpX52_below (fun r => (r = 0 → P) ∧ (¬ r = 0 → Q)) s a b := by
  unfold wpX52_below
  unfold csB at h1 h0
  exact ⟨fun e => ⟨fun q => absurd q (by decide), fun _ => h1 (Or.inl e)⟩, fun e => ⟨by omega, fun e2 => ⟨fun q => absurd q (by decide), fun _ => h1 (Or.inr e2)⟩, fun e2 => ⟨fun _ => h0 (fun w => w.elim e e2), fun q => absurd rfl q⟩⟩⟩
/-- what a going over may do -/
def csS1 (n : Int) (I : (Int → Int) → Prop) : Prop := ∀ s a b c, I s → (0 ≤ a ∧ a < n) → csH n b → csH n c → csB s a b → csB s b c → ¬ s (21 * a + c) = 1 → I (updI s (21 * a + c) 1)
def csS0 (n : Int) (I : (Int → Int) → Prop) : Prop := ∀ s a b c d, I s → (0 ≤ a ∧ a < n) → csH n b → (0 ≤ c ∧ c < n) → csH n d → s (21 * a + b) = 0 → csB s a c → csB s d b → ¬ s (21 * c + d) = 0 → ¬ s (21 * c + d) = 1 → I (updI s (21 * c + d) 0)
theorem T52_c40 {K : Int → (Int → Int) → Prop} {x : Int} {s : Int → Int} (hn : 0 ≤ n ∧ n ≤ 20) (H : csS1 n I) (hI : I s) (hx : x = 0 ∨ x = 1) (ha : 0 ≤ a ∧ a < n) (hb : csH n b) (hab : csB s a b) (hp : ∀ x' s', I s' → csF x s x' s' → (x' = 0 → ∀ c, csH n c → csB s b c → s (21 * a + c) = 1) → K x' s') : ∃ fu, wX52_closeOnce_40 K a b n fu x 0 s := by
  have bb : 0 ≤ b ∧ b ≤ 20 := by unfold csH at hb; omega
  refine wl3 (fun m x' i s' => wX52_closeOnce_40 K a b n m x' i s') (fun x' i s' => (0 ≤ i ∧ i ≤ 21) ∧ I s' ∧ csB s' a b ∧ csF x s x' s' ∧ (x' = 0 → ∀ c, c < i → csH n c → csB s b c → s (21 * a + c) = 1)) (fun _ i _ => (21 - i).toNat) ?_ x 0 s ⟨by decide, hI, hab, csF.r hx, fun _ c hc hh => by unfold csH at hh; omega⟩
  rintro x' i s' ⟨hi, hI', hab', F, hc⟩ m ih
  rw [wX52_closeOnce_40]
  refine ⟨fun z => hp x' s' hI' F (fun q c hh => hc q c (by unfold csH at hh; omega) hh), fun z => T52_hereB hi.1 (fun hh => T52_belowB bb ⟨hi.1, by omega⟩ (fun hbc => ⟨by omega, fun e => ⟨by omega, fun _ e1 => ?_⟩, fun e s2 e2 => ⟨by omega, fun _ e1 => ?_⟩⟩) (fun hbc => ⟨by omega, fun _ e1 => ?_⟩)) (fun hh => ⟨by omega, fun _ e1 => ?_⟩)⟩
  · rw [e1]
    refine ih _ _ _ ⟨by omega, hI', hab', F, fun q c q1 q2 q3 => ?_⟩ (by omega)
    by_cases h : c = i
    · subst h; rw [(F.2.2.2 q).2] at e; exact e
    · exact hc q c (by omega) q2 q3
  · rw [e1, e2]
    have ib : 0 ≤ 21 * a + i ∧ 21 * a + i < 420 := by omega
    have lt := csMu_1 ib e
    refine ih _ _ _ ⟨by omega, H s' a b i hI' ha hb hh hab' hbc e, ?_, ⟨Or.inr rfl, by have := F.2.1; omega, fun _ => Or.inr (by have := F.2.1; omega), fun q => absurd q (by decide)⟩, fun q => absurd q (by decide)⟩ (by omega)
    rcases hab' with h | h
    · exact Or.inl h
    · refine Or.inr ?_
      by_cases q : 21 * a + b = 21 * a + i
      · rw [q, updI_s]
      · rw [updI_n q]; exact h
  · rw [e1]
    refine ih _ _ _ ⟨by omega, hI', hab', F, fun q c q1 q2 q3 => ?_⟩ (by omega)
    by_cases h : c = i
    · subst h; rw [(F.2.2.2 q).2] at hbc; exact absurd q3 hbc
    · exact hc q c (by omega) q2 q3
  · rw [e1]
    refine ih _ _ _ ⟨by omega, hI', hab', F, fun q c q1 q2 q3 => ?_⟩ (by omega)
    by_cases h : c = i
    · subst h; exact absurd q2 hh
    · exact hc q c (by omega) q2 q3
theorem T52_c14 {K : Int → (Int → Int) → Prop} {x : Int} {s : Int → Int} (hn : 0 ≤ n ∧ n ≤ 20) (H : csS1 n I) (hI : I s) (hx : x = 0 ∨ x = 1) (ha : 0 ≤ a ∧ a < n) (hp : ∀ x' s', I s' → csF x s x' s' → (x' = 0 → ∀ b c, csH n b → csH n c → csB s a b → csB s b c → s (21 * a + c) = 1) → K x' s') : ∃ fu, wX52_closeOnce_14 K a n fu x 0 s := by
  refine wl3 (fun m x' i s' => wX52_closeOnce_14 K a n m x' i s') (fun x' i s' => (0 ≤ i ∧ i ≤ 21) ∧ I s' ∧ csF x s x' s' ∧ (x' = 0 → ∀ b c, b < i → csH n b → csH n c → csB s a b → csB s b c → s (21 * a + c) = 1)) (fun _ i _ => (21 - i).toNat) ?_ x 0 s ⟨by decide, hI, csF.r hx, fun _ b c hb hh => by unfold csH at hh; omega⟩
  rintro x' i s' ⟨hi, hI', F, hc⟩ m ih
  rw [wX52_closeOnce_14]
  have no : (x' = 0 → ∀ c, csH n i → csH n c → csB s a i → csB s i c → s (21 * a + c) = 1) → wX52_closeOnce_14 K a n m x' (i + 1) s' ∨ i = 21 := fun hno => by
    by_cases h21 : i = 21
    · exact Or.inr h21
    · refine Or.inl (ih _ _ _ ⟨by omega, hI', F, fun q b c q1 q2 q3 q4 q5 => ?_⟩ (by omega))
      by_cases h : b = i
      · subst h; exact hno q c q2 q3 q4 q5
      · exact hc q b c (by omega) q2 q3 q4 q5
  refine ⟨fun z => hp x' s' hI' F (fun q b c hh => hc q b c (by unfold csH at hh; omega) hh), fun z => T52_hereB hi.1 (fun hh => T52_belowB ⟨ha.1, by omega⟩ ⟨hi.1, by omega⟩ (fun hab => ?_) (fun hab => ⟨by omega, fun _ e1 => ?_⟩)) (fun hh => ⟨by omega, fun _ e1 => ?_⟩)⟩
  · refine T52_c40 hn H hI' F.1 ha hh hab (fun x2 s2 hI2 F2 h2 => ⟨by omega, fun _ e1 => ?_⟩)
    rw [e1]
    refine ih _ _ _ ⟨by omega, hI2, F.t F2, fun q b c q1 q2 q3 q4 q5 => ?_⟩ (by omega)
    have w := F2.2.2.2 q
    have w2 := F.2.2.2 w.1
    by_cases h : b = i
    · subst h
      have := h2 q c q3
      rw [w2.2] at this
      exact this q5
    · exact hc w.1 b c (by omega) q2 q3 q4 q5
  · rw [e1]
    refine (no (fun q c _ _ q4 _ => ?_)).resolve_right (by omega)
    rw [(F.2.2.2 q).2] at hab; exact absurd q4 hab
  · rw [e1]
    exact (no (fun q c q2 _ _ _ => absurd q2 hh)).resolve_right (by omega)
theorem T52_c4 {K : Int → (Int → Int) → Prop} {s : Int → Int} (hn : 0 ≤ n ∧ n ≤ 20) (H : csS1 n I) (hI : I s) (hp : ∀ x' s', I s' → csF 0 s x' s' → (x' = 0 → ∀ a b c, 0 ≤ a → a < n → csH n b → csH n c → csB s a b → csB s b c → s (21 * a + c) = 1) → K x' s') : ∃ fu, wX52_closeOnce_4 K n fu 0 0 s := by
  refine wl3 (fun m x' i s' => wX52_closeOnce_4 K n m x' i s') (fun x' i s' => (0 ≤ i ∧ i ≤ n) ∧ I s' ∧ csF 0 s x' s' ∧ (x' = 0 → ∀ a b c, 0 ≤ a → a < i → csH n b → csH n c → csB s a b → csB s b c → s (21 * a + c) = 1)) (fun _ i _ => (n - i).toNat) ?_ 0 0 s ⟨by omega, hI, csF.r (Or.inl rfl), fun _ a b c h1 h2 => by omega⟩
  rintro x' i s' ⟨hi, hI', F, hc⟩ m ih
  rw [wX52_closeOnce_4]
  refine ⟨fun z => hp x' s' hI' F (fun q a b c h1 h2 => hc q a b c h1 (by omega)), fun z => T52_c14 hn H hI' F.1 ⟨hi.1, by omega⟩ (fun x2 s2 hI2 F2 h2 => ⟨by omega, fun _ e1 => ?_⟩)⟩
  rw [e1]
  refine ih _ _ _ ⟨by omega, hI2, F.t F2, fun q a b c q1 q2 q3 q4 q5 q6 => ?_⟩ (by omega)
  have w := F2.2.2.2 q
  have w2 := F.2.2.2 w.1
  by_cases h : a = i
  · subst h
    have := h2 q b c q3 q4
    rw [w2.2] at this
    exact this q5 q6
  · exact hc w.1 a b c q1 (by omega) q3 q4 q5 q6
end

/-! ClassifySort, the reference (X52): closing -/
section
variable {n a b m : Int} {I : (Int → Int) → Prop} {L O R Th : Int → Int}
theorem T52_s27 {K : Int → (Int → Int) → Prop} {x c : Int} {s : Int → Int} (hn : 0 ≤ n ∧ n ≤ 20) (H : csS0 n I) (hI : I s) (hx : x = 0 ∨ x = 1) (ha : 0 ≤ a ∧ a < n) (hb : csH n b) (hc : 0 ≤ c ∧ c < n) (hs : s (21 * a + b) = 0) (hac : csB s a c) (hp : ∀ x' s', I s' → csF x s x' s' → (s' (21 * a + b) = 0 ∧ ∀ y, s' y = 1 ↔ s y = 1) → (x' = 0 → ∀ d, csH n d → csB s d b → ¬ s (21 * c + d) = 1 → s (21 * c + d) = 0) → K x' s') : ∃ fu, wX52_spreadNo_27 K b c n fu x 0 s := by
  have bb : 0 ≤ b ∧ b ≤ 20 := by unfold csH at hb; omega
  refine wl3 (fun m x' i s' => wX52_spreadNo_27 K b c n m x' i s') (fun x' i s' => (0 ≤ i ∧ i ≤ 21) ∧ I s' ∧ (s' (21 * a + b) = 0 ∧ ∀ y, s' y = 1 ↔ s y = 1) ∧ csF x s x' s' ∧ (x' = 0 → ∀ d, d < i → csH n d → csB s d b → ¬ s (21 * c + d) = 1 → s (21 * c + d) = 0)) (fun _ i _ => (21 - i).toNat) ?_ x 0 s ⟨by decide, hI, ⟨hs, fun _ => Iff.rfl⟩, csF.r hx, fun _ d hd hh => by unfold csH at hh; omega⟩
  rintro x' i s' ⟨hi, hI', ⟨hs', h1'⟩, F, hd⟩ m ih
  have eB : ∀ u v, csB s' u v ↔ csB s u v := fun u v => by unfold csB; rw [h1']
  rw [wX52_spreadNo_27]
  have no : (x' = 0 → csH n i → csB s i b → ¬ s (21 * c + i) = 1 → s (21 * c + i) = 0) → i < 21 → ∀ y, y = i + 1 → wX52_spreadNo_27 K b c n m x' y s' := fun hno lt y ey => by
    rw [ey]
    refine ih _ _ _ ⟨by omega, hI', ⟨hs', h1'⟩, F, fun q d q1 q2 q3 q4 => ?_⟩ (by omega)
    by_cases h : d = i
    · subst h; exact hno q q2 q3 q4
    · exact hd q d (by omega) q2 q3 q4
  refine ⟨fun z => hp x' s' hI' F ⟨hs', h1'⟩ (fun q d hh => hd q d (by unfold csH at hh; omega) hh), fun z => ⟨by omega, fun v ev => T52_hereB hi.1 (fun hh => T52_belowB ⟨hi.1, by omega⟩ bb (fun hdb => ⟨fun e => ⟨by omega, no (fun q _ _ _ => ?_) (by omega)⟩, fun e => ⟨fun e2 => ⟨by omega, no (fun q _ _ q4 => ?_) (by omega)⟩, fun e2 s2 es2 => ⟨by omega, fun _ e1 => ?_⟩⟩⟩) (fun hdb => ⟨by omega, no (fun q _ q3 _ => absurd ((eB _ _).mpr q3) hdb) (by omega)⟩)) (fun hh => ⟨by omega, no (fun q q2 _ _ => absurd q2 hh) (by omega)⟩)⟩⟩
  · rw [(F.2.2.2 q).2] at ev; omega
  · rw [(F.2.2.2 q).2] at ev; exact absurd (ev.symm.trans e2) q4
  · rw [e1, es2]
    rw [ev] at e e2
    have ib : 0 ≤ 21 * c + i ∧ 21 * c + i < 420 := by omega
    have lt := csMu_0 ib e2 e
    refine ih _ _ _ ⟨by omega, H s' a b c i hI' ha hb hc hh hs' ((eB _ _).mpr hac) hdb e e2, ⟨?_, fun y => ?_⟩, ⟨Or.inr rfl, by have := F.2.1; omega, fun _ => Or.inr (by have := F.2.1; omega), fun q => absurd q (by decide)⟩, fun q => absurd q (by decide)⟩ (by omega)
    · by_cases q : 21 * a + b = 21 * c + i
      · rw [q, updI_s]
      · rw [updI_n q]; exact hs'
    · by_cases q : y = 21 * c + i
      · rw [q, updI_s, ← h1']; exact ⟨fun w => absurd w (by decide), fun w => absurd w e2⟩
      · rw [updI_n q]; exact h1' y
theorem T52_spread {post : Int → (Int → Int) → Prop} {s : Int → Int} (hn : 0 ≤ n ∧ n ≤ 20) (H : csS0 n I) (hI : I s) (ha : 0 ≤ a ∧ a < n) (hb : csH n b) (hs : s (21 * a + b) = 0) (hp : ∀ x' s', I s' → csF 0 s x' s' → (∀ y, s' y = 1 ↔ s y = 1) → (x' = 0 → ∀ c d, 0 ≤ c → c < n → csH n d → csB s a c → csB s d b → ¬ s (21 * c + d) = 1 → s (21 * c + d) = 0) → post x' s') : wpX52_spreadNo post n s a b := by
  unfold wpX52_spreadNo
  refine wl3 (fun m x' i s' => wX52_spreadNo_5 _ a b n m x' i s') (fun x' i s' => (0 ≤ i ∧ i ≤ n) ∧ I s' ∧ (s' (21 * a + b) = 0 ∧ ∀ y, s' y = 1 ↔ s y = 1) ∧ csF 0 s x' s' ∧ (x' = 0 → ∀ c d, 0 ≤ c → c < i → csH n d → csB s a c → csB s d b → ¬ s (21 * c + d) = 1 → s (21 * c + d) = 0)) (fun _ i _ => (n - i).toNat) ?_ 0 0 s ⟨by omega, hI, ⟨hs, fun _ => Iff.rfl⟩, csF.r (Or.inl rfl), fun _ c d h1 h2 => by omega⟩
  rintro x' i s' ⟨hi, hI', ⟨hs', h1'⟩, F, hd⟩ m ih
  have eB : ∀ u v, csB s' u v ↔ csB s u v := fun u v => by unfold csB; rw [h1']
  rw [wX52_spreadNo_5]
  refine ⟨fun z => ⟨F.1, hp x' s' hI' F h1' (fun q c d h1 h2 => hd q c d h1 (by omega))⟩, fun z => T52_belowB ⟨ha.1, by omega⟩ ⟨hi.1, by omega⟩ (fun hac => ?_) (fun hac => ⟨by omega, fun _ e1 => ?_⟩)⟩
  · refine T52_s27 hn H hI' F.1 ha hb ⟨hi.1, by omega⟩ hs' hac (fun x2 s2 hI2 F2 h2 h3 => ⟨by omega, fun _ e1 => ?_⟩)
    rw [e1]
    refine ih _ _ _ ⟨by omega, hI2, ⟨h2.1, fun y => (h2.2 y).trans (h1' y)⟩, F.t F2, fun q c d q1 q2 q3 q4 q5 q6 => ?_⟩ (by omega)
    have w := F2.2.2.2 q
    have w2 := F.2.2.2 w.1
    by_cases h : c = i
    · subst h
      have := h3 q d q3
      rw [w2.2] at this
      exact this q5 q6
    · exact hd w.1 c d q1 (by omega) q3 q4 q5 q6
  · rw [e1]
    refine ih _ _ _ ⟨by omega, hI', ⟨hs', h1'⟩, F, fun q c d q1 q2 q3 q4 q5 q6 => ?_⟩ (by omega)
    by_cases h : c = i
    · subst h; exact absurd ((eB _ _).mpr q4) hac
    · exact hd q c d q1 (by omega) q3 q4 q5 q6
theorem T52_c127 {K : Int → (Int → Int) → Prop} {x : Int} {s : Int → Int} (hn : 0 ≤ n ∧ n ≤ 20) (H : csS0 n I) (hI : I s) (hx : x = 0 ∨ x = 1) (ha : 0 ≤ a ∧ a < n) (hp : ∀ x' s', I s' → csF x s x' s' → (∀ y, s' y = 1 ↔ s y = 1) → (x' = 0 → ∀ b c d, csH n b → s (21 * a + b) = 0 → 0 ≤ c → c < n → csH n d → csB s a c → csB s d b → ¬ s (21 * c + d) = 1 → s (21 * c + d) = 0) → K x' s') : ∃ fu, wX52_closeOnce_127 K a n fu x 0 s := by
  refine wl3 (fun m x' i s' => wX52_closeOnce_127 K a n m x' i s') (fun x' i s' => (0 ≤ i ∧ i ≤ 21) ∧ I s' ∧ (∀ y, s' y = 1 ↔ s y = 1) ∧ csF x s x' s' ∧ (x' = 0 → ∀ b c d, b < i → csH n b → s (21 * a + b) = 0 → 0 ≤ c → c < n → csH n d → csB s a c → csB s d b → ¬ s (21 * c + d) = 1 → s (21 * c + d) = 0)) (fun _ i _ => (21 - i).toNat) ?_ x 0 s ⟨by decide, hI, fun _ => Iff.rfl, csF.r hx, fun _ b c d hb hh => by unfold csH at hh; omega⟩
  rintro x' i s' ⟨hi, hI', h1', F, hc⟩ m ih
  rw [wX52_closeOnce_127]
  have go : i < 21 → ∀ x2 s2, I s2 → csF x' s' x2 s2 → (∀ y, s2 y = 1 ↔ s' y = 1) → (x2 = 0 → csH n i → s (21 * a + i) = 0 → ∀ c d, 0 ≤ c → c < n → csH n d → csB s a c → csB s d i → ¬ s (21 * c + d) = 1 → s (21 * c + d) = 0) → wX52_closeOnce_127 K a n m x2 (i + 1) s2 := fun lt x2 s2 hI2 F2 h2 hno => by
    refine ih _ _ _ ⟨by omega, hI2, fun y => (h2 y).trans (h1' y), F.t F2, fun q b c d q1 q2 q3 q4 q5 q6 q7 q8 q9 => ?_⟩ (by omega)
    have w := F2.2.2.2 q
    by_cases h : b = i
    · subst h; exact hno q q2 q3 c d q4 q5 q6 q7 q8 q9
    · exact hc w.1 b c d (by omega) q2 q3 q4 q5 q6 q7 q8 q9
  refine ⟨fun z => hp x' s' hI' F h1' (fun q b c d hh => hc q b c d (by unfold csH at hh; omega) hh), fun z => T52_hereB hi.1 (fun hh => ⟨by omega, fun e => ?_, fun e => ⟨by omega, fun _ e1 => ?_⟩⟩) (fun hh => ⟨by omega, fun _ e1 => ?_⟩)⟩
  · refine T52_spread hn H hI' ha hh e (fun x2 s2 hI2 F2 h2 h3 => ?_)
    have mono := F2.2.1
    refine ⟨fun z2 => ⟨fun z3 => ⟨by omega, fun _ e1 => ?_⟩, fun z3 => ⟨by omega, fun _ e1 => ?_⟩⟩, fun z2 => ⟨by omega, fun _ e1 => ?_⟩⟩
    · rw [e1]
      have w := F2.2.2.2 z2
      refine go (by omega) 0 s2 hI2 ⟨Or.inl rfl, mono, fun q => absurd q (by decide), fun _ => ⟨z3, w.2⟩⟩ h2 (fun _ _ q3 c d q4 q5 q6 q7 q8 q9 => ?_)
      have w2 := F.2.2.2 z3
      have := h3 z2 c d q4 q5 q6
      rw [w2.2] at this
      exact this q7 q8 q9
    · rw [e1]
      have x1 : x' = 1 := F.1.resolve_left z3
      exact go (by omega) 1 s2 hI2 ⟨Or.inr rfl, mono, fun _ => Or.inl x1, fun q => absurd q (by decide)⟩ h2 (fun q => absurd q (by decide))
    · rw [e1]
      have w := F2.2.2.1 (F2.1.resolve_left z2)
      exact go (by omega) 1 s2 hI2 ⟨Or.inr rfl, mono, fun _ => w.elim (fun q => absurd q (by decide)) Or.inr, fun q => absurd q (by decide)⟩ h2 (fun q => absurd q (by decide))
  · rw [e1]
    refine go (by omega) x' s' hI' (csF.r F.1) (fun _ => Iff.rfl) (fun q _ q3 => ?_)
    rw [(F.2.2.2 q).2] at e; exact absurd q3 e
  · rw [e1]
    exact go (by omega) x' s' hI' (csF.r F.1) (fun _ => Iff.rfl) (fun _ q2 => absurd q2 hh)
theorem T52_once {post : Int → (Int → Int) → Prop} {s : Int → Int} (hn : 0 ≤ n ∧ n ≤ 20) (H1 : csS1 n I) (H0 : csS0 n I) (hI : I s) (hp : ∀ x' s', I s' → csF 0 s x' s' → (x' = 0 → (∀ a b c, 0 ≤ a → a < n → csH n b → csH n c → csB s a b → csB s b c → s (21 * a + c) = 1) ∧ ∀ a b c d, 0 ≤ a → a < n → csH n b → s (21 * a + b) = 0 → 0 ≤ c → c < n → csH n d → csB s a c → csB s d b → ¬ s (21 * c + d) = 1 → s (21 * c + d) = 0) → post x' s') : wpX52_closeOnce post n s := by
  unfold wpX52_closeOnce
  refine T52_c4 hn H1 hI (fun x1 s1 hI1 F1 h1 => ?_)
  refine wl3 (fun m x' i s' => wX52_closeOnce_117 _ n m x' i s') (fun x' i s' => (0 ≤ i ∧ i ≤ n) ∧ I s' ∧ csF x1 s1 x' s' ∧ (x' = 0 → ∀ a b c d, 0 ≤ a → a < i → csH n b → s (21 * a + b) = 0 → 0 ≤ c → c < n → csH n d → csB s a c → csB s d b → ¬ s (21 * c + d) = 1 → s (21 * c + d) = 0)) (fun _ i _ => (n - i).toNat) ?_ x1 0 s1 ⟨by omega, hI1, csF.r F1.1, fun _ a b c d h1 h2 => by omega⟩
  rintro x' i s' ⟨hi, hI', F, hc⟩ m ih
  rw [wX52_closeOnce_117]
  refine ⟨fun z => ⟨F.1, hp x' s' hI' (F1.t F) (fun q => ⟨h1 (F.2.2.2 q).1, fun a b c d q1 q2 => hc q a b c d q1 (by omega)⟩)⟩, fun z => T52_c127 hn H0 hI' F.1 ⟨hi.1, by omega⟩ (fun x2 s2 hI2 F2 h2 h3 => ⟨by omega, fun _ e1 => ?_⟩)⟩
  rw [e1]
  refine ih _ _ _ ⟨by omega, hI2, F.t F2, fun q a b c d q1 q2 q3 q4 q5 q6 q7 q8 q9 q10 => ?_⟩ (by omega)
  have w := F2.2.2.2 q
  have w2 := F.2.2.2 w.1
  have w3 := F1.2.2.2 w2.1
  by_cases h : a = i
  · subst h
    have := h3 q b c d q3
    rw [w2.2, w3.2] at this
    exact this q4 q5 q6 q7 q8 q9 q10
  · exact hc w.1 a b c d q1 (by omega) q3 q4 q5 q6 q7 q8 q9 q10
theorem T52_c6 {K : (Int → Int) → Prop} {s : Int → Int} (hn : 0 ≤ n ∧ n ≤ 20) (H1 : csS1 n I) (H0 : csS0 n I) (hI : I s) (hp : ∀ s', I s' → (∀ a b c, 0 ≤ a → a < n → csH n b → csH n c → csB s' a b → csB s' b c → s' (21 * a + c) = 1) → (∀ a b c d, 0 ≤ a → a < n → csH n b → s' (21 * a + b) = 0 → 0 ≤ c → c < n → csH n d → csB s' a c → csB s' d b → ¬ s' (21 * c + d) = 1 → s' (21 * c + d) = 0) → K s') : ∃ fu, wX52_close_6 K n fu 1 s := by
  refine wl2 (fun m x s => wX52_close_6 K n m x s) (fun x s => (x = 0 ∨ x = 1) ∧ I s ∧ (x = 0 → (∀ a b c, 0 ≤ a → a < n → csH n b → csH n c → csB s a b → csB s b c → s (21 * a + c) = 1) ∧ ∀ a b c d, 0 ≤ a → a < n → csH n b → s (21 * a + b) = 0 → 0 ≤ c → c < n → csH n d → csB s a c → csB s d b → ¬ s (21 * c + d) = 1 → s (21 * c + d) = 0)) (fun x s => (csMu s + x).toNat) ?_ 1 s ⟨Or.inr rfl, hI, fun q => absurd q (by decide)⟩
  rintro x s ⟨hx, hI, hc⟩ m ih
  have mb := csMu_b (s := s)
  rw [wX52_close_6]
  refine ⟨fun z => hp s hI (hc z).1 (hc z).2, fun z => T52_once hn H1 H0 hI (fun x' s' hI' F h => ?_)⟩
  have mb' := csMu_b (s := s')
  refine ih x' s' ⟨F.1, hI', fun q => ?_⟩ ?_
  · rw [(F.2.2.2 q).2]; exact h q
  · have a := F.2.1
    rcases F.1 with q | q
    · omega
    · have := F.2.2.1 q; omega
end

/-! ClassifySort, the reference (X52): what closing gives -/
section
variable {n a b m : Int} {L O R Th s : Int → Int}
/-- what is told, itself among it -/
def csIt (L O R Th : Int → Int) (m a b : Int) : Prop := a = b ∨ csTo L O R Th m a b
theorem T52_isItself {post : Int → Prop} (hm : 0 ≤ m ∧ m ≤ 40) (h1 : csIt L O R Th m a b → post 1) (h0 : ¬ csIt L O R Th m a b → post 0) : wpX52_isItself post m L O R Th a b := by
  have key : ∀ x : Int, (x = 0 ∨ x = 1) → (x = 1 → a = b) → (x = 0 → ¬ a = b) → ∃ fu, wX52_isItself_14 (fun (x3_27 : Int) => (x3_27 = 0 ∨ x3_27 = 1) ∧ (post x3_27)) a b m L O R Th fu x 0 := fun x hx hx1 hx0 => by
    refine wl2 (fun f x i => wX52_isItself_14 (fun (x3_27 : Int) => (x3_27 = 0 ∨ x3_27 = 1) ∧ (post x3_27)) a b m L O R Th f x i) (fun x i => (0 ≤ i ∧ i ≤ m) ∧ (x = 0 ∨ x = 1) ∧ (x = 1 → csIt L O R Th m a b) ∧ (x = 0 → ¬ a = b ∧ ∀ k, 0 ≤ k → k < i → ¬ (¬ Th k = 0 ∧ L k = a ∧ O k = -1 ∧ R k = b))) (fun x i => (m - i).toNat) ?_ x 0 ⟨by omega, hx, fun q => Or.inl (hx1 q), fun q => ⟨hx0 q, fun k p q => by omega⟩⟩
    rintro x i ⟨hi, hx, hy, hn⟩ f ih
    rw [wX52_isItself_14]
    have no : x = 0 → ¬ (¬ Th i = 0 ∧ L i = a ∧ O i = -1 ∧ R i = b) → i < m → ∀ y, y = i + 1 → wX52_isItself_14 (fun (x3_27 : Int) => (x3_27 = 0 ∨ x3_27 = 1) ∧ (post x3_27)) a b m L O R Th f 0 y := fun x0 hh lt y ey => by
      rw [ey]
      refine ih _ _ ⟨by omega, Or.inl rfl, fun q => absurd q (by decide), fun _ => ⟨(hn x0).1, fun k p q => ?_⟩⟩ (by omega)
      by_cases e : k = i
      · subst e; exact hh
      · exact (hn x0).2 k p (by omega)
    refine ⟨fun z => ⟨hx, ?_⟩, fun z => ⟨fun x0 => ⟨by omega, fun e => ⟨by omega, no x0 (fun w => w.1 e) (by omega)⟩, fun e => ⟨fun e1 => ⟨fun e2 => ⟨fun e3 => ⟨by omega, fun _ ey => ?_⟩, fun e3 => ⟨by omega, no x0 (fun w => e3 w.2.2.2) (by omega)⟩⟩, fun e2 => ⟨by omega, no x0 (fun w => e2 w.2.2.1) (by omega)⟩⟩, fun e1 => ⟨by omega, no x0 (fun w => e1 w.2.1) (by omega)⟩⟩⟩, fun x0 => ⟨by omega, fun _ ey => ?_⟩⟩⟩
    · rcases hx with e | e
      · rw [e]
        refine h0 (fun w => ?_)
        rcases w with w | ⟨k, hk, w⟩
        · exact (hn e).1 w
        · exact (hn e).2 k hk.1 (by omega) w
      · rw [e]; exact h1 (hy e)
    · rw [ey]
      exact ih _ _ ⟨by omega, Or.inr rfl, fun _ => Or.inr ⟨i, by omega, e, e1, e2, e3⟩, fun q => absurd q (by decide)⟩ (by omega)
    · rw [ey]
      have x1 : x = 1 := by omega
      exact ih _ _ ⟨by omega, Or.inr rfl, fun _ => hy x1, fun q => absurd q (by decide)⟩ (by omega)
  unfold wpX52_isItself
  exact ⟨fun e => key 1 (Or.inr rfl) (fun _ => e) (fun q => absurd q (by decide)), fun e => key 0 (Or.inl rfl) (fun q => absurd q (by decide)) (fun _ => e)⟩
/-- told at first -/
noncomputable def csT1 (n : Int) (L O R Th : Int → Int) (m : Int) (s : Int → Int) : Int → Int := fun x => pif ((0 ≤ x ∧ x / 21 < n) ∧ csH n (x % 21) ∧ csIt L O R Th m (x / 21) (x % 21)) 1 (s x)
theorem T52_tell {post : (Int → Int) → Prop} (hn : 0 ≤ n ∧ n ≤ 20) (hm : 0 ≤ m ∧ m ≤ 40) (hp : post (csT1 n L O R Th m s)) : wpX52_tellItself post n m L O R Th s := by
  unfold wpX52_tellItself
  have in12 : ∀ (K : (Int → Int) → Prop) (a : Int) (s0 : Int → Int), 0 ≤ a → a < n → (∀ s', (∀ x, s' x = pif ((21 * a ≤ x ∧ x < 21 * a + 21) ∧ csH n (x % 21) ∧ csIt L O R Th m (x / 21) (x % 21)) 1 (s0 x)) → K s') → ∃ fu, wX52_tellItself_12 K a n m L O R Th fu 0 s0 := fun K a s0 a0 an hK => by
    refine wl2 (fun f i s' => wX52_tellItself_12 K a n m L O R Th f i s') (fun i s' => (0 ≤ i ∧ i ≤ 21) ∧ ∀ x, s' x = pif ((21 * a ≤ x ∧ x < 21 * a + i) ∧ csH n (x % 21) ∧ csIt L O R Th m (x / 21) (x % 21)) 1 (s0 x)) (fun i _ => (21 - i).toNat) ?_ 0 s0 ⟨by decide, fun x => (pif_f (fun w => by omega)).symm⟩
    rintro i s' ⟨hi, hs⟩ f ih
    rw [wX52_tellItself_12]
    have same : ¬ (csH n i ∧ csIt L O R Th m a i) → i < 21 → ∀ y, y = i + 1 → wX52_tellItself_12 K a n m L O R Th f y s' := fun hh lt y ey => by
      rw [ey]
      refine ih _ _ ⟨by omega, fun x => ?_⟩ (by omega)
      rw [hs]
      refine pif_c ⟨fun w => ⟨by omega, w.2⟩, fun w => ⟨⟨w.1.1, ?_⟩, w.2⟩⟩
      by_cases e : x = 21 * a + i
      · have e1 : x / 21 = a := by omega
        have e2 : x % 21 = i := by omega
        rw [e1, e2] at w
        exact absurd w.2 hh
      · omega
    have t32 : csH n i → i < 21 → wX52_tellItself_32 (wX52_tellItself_12 K a n m L O R Th f) a i m L O R Th s' := fun hh lt => by
      unfold wX52_tellItself_32
      refine T52_isItself hm (fun it => ⟨fun q => absurd q (by decide), fun _ => ⟨by omega, fun _ e1 => ⟨by omega, fun _ ey => ?_⟩⟩⟩) (fun it => ⟨fun _ => ⟨by omega, same (fun w => it w.2) lt⟩, fun q => absurd rfl q⟩)
      rw [ey, e1]
      refine ih _ _ ⟨by omega, fun x => ?_⟩ (by omega)
      by_cases e : x = 21 * a + i
      · rw [e, updI_s, pif_t]
        have e1 : (21 * a + i) / 21 = a := by omega
        have e2 : (21 * a + i) % 21 = i := by omega
        rw [e1, e2]
        exact ⟨by omega, hh, it⟩
      · rw [updI_n e, hs]
        exact pif_c ⟨fun w => ⟨by omega, w.2⟩, fun w => ⟨by omega, w.2⟩⟩
    exact ⟨fun z => hK s' (fun x => by rw [hs, show i = 21 by omega]), fun z => ⟨fun e => t32 (Or.inl ⟨hi.1, e⟩) (by omega), fun e => ⟨fun e2 => t32 (Or.inr e2) (by omega), fun e2 => ⟨by omega, same (fun w => by have := w.1; unfold csH at this; omega) (by omega)⟩⟩⟩⟩
  refine wl2 (fun f i s' => wX52_tellItself_2 _ n m L O R Th f i s') (fun i s' => (0 ≤ i ∧ i ≤ n) ∧ ∀ x, s' x = pif ((0 ≤ x ∧ x < 21 * i) ∧ csH n (x % 21) ∧ csIt L O R Th m (x / 21) (x % 21)) 1 (s x)) (fun i _ => (n - i).toNat) ?_ 0 s ⟨by omega, fun x => (pif_f (fun w => by omega)).symm⟩
  rintro i s' ⟨hi, hs⟩ f ih
  rw [wX52_tellItself_2]
  refine ⟨fun z => ?_, fun z => in12 _ i s' hi.1 (by omega) (fun s2 h2 => ⟨by omega, fun _ ey => ?_⟩)⟩
  · have : s' = csT1 n L O R Th m s := by
      funext x
      rw [hs]
      exact pif_c ⟨fun w => ⟨by omega, w.2⟩, fun w => ⟨by omega, w.2⟩⟩
    rw [this]; exact hp
  · rw [ey]
    refine ih _ _ ⟨by omega, fun x => ?_⟩ (by omega)
    rw [h2, hs]
    by_cases w : csH n (x % 21) ∧ csIt L O R Th m (x / 21) (x % 21)
    · by_cases q : 21 * i ≤ x ∧ x < 21 * i + 21
      · rw [pif_t ⟨q, w⟩, pif_t ⟨by omega, w⟩]
      · rw [pif_f (fun w => q w.1)]
        exact pif_c ⟨fun w => ⟨by omega, w.2⟩, fun w => ⟨by omega, w.2⟩⟩
    · rw [pif_f (fun q => w q.2), pif_f (fun q => w q.2), pif_f (fun q => w q.2)]
/-- closed -/
def csNo (n : Int) (B : Int → Int → Prop) (s : Int → Int) (a b : Int) : Prop := ∃ a' b', ((0 ≤ a' ∧ a' < n) ∧ csH n b') ∧ s (21 * a' + b') = 0 ∧ csY n B a' a ∧ csY n B b b'
noncomputable def csCl (n : Int) (L O R Th : Int → Int) (m : Int) (s : Int → Int) : Int → Int := fun x => pif ((0 ≤ x ∧ x / 21 < n) ∧ csH n (x % 21)) (pif (csY n (csB0 L O R Th m s) (x / 21) (x % 21)) 1 (pif (csNo n (csB0 L O R Th m s) s (x / 21) (x % 21)) 0 (s x))) (s x)
/-- what is denied does not follow -/
def csOk (n : Int) (L O R Th : Int → Int) (m : Int) (s : Int → Int) : Prop := ∀ a b, 0 ≤ a → a < n → csH n b → s (21 * a + b) = 0 → ¬ csY n (csB0 L O R Th m s) a b
theorem T52_close {post : (Int → Int) → Prop} (hn : 0 ≤ n ∧ n ≤ 20) (hm : 0 ≤ m ∧ m ≤ 40) (hok : csOk n L O R Th m s) (hp : post (csCl n L O R Th m s)) : wpX52_close post n m L O R Th s := by
  unfold wpX52_close
  refine T52_tell hn hm ?_
  obtain ⟨B, eB⟩ : ∃ B, B = csB0 L O R Th m s := ⟨_, rfl⟩
  unfold csOk at hok
  rw [← eB] at hok
  have hH : ∀ {a : Int}, 0 ≤ a → a < n → csH n a := fun h1 h2 => Or.inl ⟨h1, h2⟩
  have dv : ∀ {a b : Int}, csH n b → (21 * a + b) / 21 = a ∧ (21 * a + b) % 21 = b := fun hb => by unfold csH at hb; omega
  have t1 : ∀ {a b : Int}, 0 ≤ a → a < n → csH n b → csIt L O R Th m a b → csT1 n L O R Th m s (21 * a + b) = 1 := fun h1 h2 h3 h4 => by
    unfold csT1
    rw [(dv h3).1, (dv h3).2]
    unfold csH at h3
    exact pif_t ⟨by omega, h3, h4⟩
  have t0 : ∀ x, csT1 n L O R Th m s x ≠ s x → (0 ≤ x ∧ x / 21 < n) ∧ csH n (x % 21) ∧ csIt L O R Th m (x / 21) (x % 21) ∧ csT1 n L O R Th m s x = 1 := fun x h => by
    unfold csT1 at h ⊢
    by_cases w : ((0 ≤ x ∧ x / 21 < n) ∧ csH n (x % 21) ∧ csIt L O R Th m (x / 21) (x % 21))
    · exact ⟨w.1, w.2.1, w.2.2, pif_t w⟩
    · rw [pif_f w] at h; exact absurd rfl h
  have itB : ∀ {a b : Int}, csIt L O R Th m a b → B a b := fun h => by
    rw [eB]
    rcases h with h | h
    · exact Or.inl h
    · exact Or.inr (Or.inr (Or.inr h))
  -- what holds all through
  refine T52_c6 (I := fun s' => (∀ a b, 0 ≤ a → a < n → csH n b → s' (21 * a + b) = 1 → csY n B a b) ∧ (∀ a b, 0 ≤ a → a < n → csH n b → s' (21 * a + b) = 0 → csNo n B s a b) ∧ (∀ x, s' x ≠ s x → ((0 ≤ x ∧ x / 21 < n) ∧ csH n (x % 21)) ∧ (s' x = 1 ∨ s' x = 0)) ∧ (∀ x, csT1 n L O R Th m s x = 1 → s' x = 1) ∧ ∀ a b, 0 ≤ a → a < n → csH n b → s (21 * a + b) = 0 → s' (21 * a + b) = 0) hn ?_ ?_ ?_ (fun s' J c1 c0 => ?_)
  · intro s' a b c J ha hb hc hab hbc ne
    obtain ⟨J1, J2, J3, J4, J5⟩ := J
    have yB : ∀ {u v : Int}, csH n u → csH n v → csB s' u v → csY n B u v := fun hu hv h => by
      rcases hu with hu | hu
      · exact J1 _ _ hu.1 hu.2 hv (h.resolve_left (by omega))
      · exact csY_b (Or.inr hu) hv (by rw [eB]; exact Or.inr (Or.inl hu))
    have yac := csY_t (hH ha.1 ha.2) hb hc (yB (hH ha.1 ha.2) hb hab) (yB hb hc hbc)
    refine ⟨fun u v u0 u1 hv h => ?_, fun u v u0 u1 hv h => ?_, fun x h => ?_, fun x h => ?_, fun u v u0 u1 hv h => ?_⟩
    · by_cases e : 21 * u + v = 21 * a + c
      · have : u = a ∧ v = c := by unfold csH at hv hc; omega
        rw [this.1, this.2]; exact yac
      · rw [updI_n e] at h; exact J1 u v u0 u1 hv h
    · by_cases e : 21 * u + v = 21 * a + c
      · rw [e, updI_s] at h; exact absurd h (by decide)
      · rw [updI_n e] at h; exact J2 u v u0 u1 hv h
    · by_cases e : x = 21 * a + c
      · rw [e, updI_s, (dv hc).1, (dv hc).2]
        have := hc
        unfold csH at this
        exact ⟨⟨by omega, hc⟩, Or.inl rfl⟩
      · rw [updI_n e] at h ⊢; exact J3 x h
    · by_cases e : x = 21 * a + c
      · rw [e, updI_s]
      · rw [updI_n e]; exact J4 x h
    · by_cases e : 21 * u + v = 21 * a + c
      · have : u = a ∧ v = c := by unfold csH at hv hc; omega
        rw [this.1, this.2] at h
        exact absurd yac (hok a c ha.1 ha.2 hc h)
      · rw [updI_n e]; exact J5 u v u0 u1 hv h
  · intro s' a b c d J ha hb hc hd hab hac hdb n0 n1
    obtain ⟨J1, J2, J3, J4, J5⟩ := J
    have yB : ∀ {u v : Int}, csH n u → csH n v → csB s' u v → csY n B u v := fun hu hv h => by
      rcases hu with hu | hu
      · exact J1 _ _ hu.1 hu.2 hv (h.resolve_left (by omega))
      · exact csY_b (Or.inr hu) hv (by rw [eB]; exact Or.inr (Or.inl hu))
    have no : csNo n B s c d := by
      obtain ⟨a', b', ⟨p1, p2⟩, p3, p4, p5⟩ := J2 a b ha.1 ha.2 hb hab
      exact ⟨a', b', ⟨p1, p2⟩, p3, csY_t (hH p1.1 p1.2) (hH ha.1 ha.2) (hH hc.1 hc.2) p4 (yB (hH ha.1 ha.2) (hH hc.1 hc.2) hac), csY_t hd hb p2 (yB hd hb hdb) p5⟩
    refine ⟨fun u v u0 u1 hv h => ?_, fun u v u0 u1 hv h => ?_, fun x h => ?_, fun x h => ?_, fun u v u0 u1 hv h => ?_⟩
    · by_cases e : 21 * u + v = 21 * c + d
      · rw [e, updI_s] at h; exact absurd h (by decide)
      · rw [updI_n e] at h; exact J1 u v u0 u1 hv h
    · by_cases e : 21 * u + v = 21 * c + d
      · have : u = c ∧ v = d := by unfold csH at hv hd; omega
        rw [this.1, this.2]; exact no
      · rw [updI_n e] at h; exact J2 u v u0 u1 hv h
    · by_cases e : x = 21 * c + d
      · rw [e, updI_s, (dv hd).1, (dv hd).2]
        have := hd
        unfold csH at this
        exact ⟨⟨by omega, hd⟩, Or.inr rfl⟩
      · rw [updI_n e] at h ⊢; exact J3 x h
    · by_cases e : x = 21 * c + d
      · rw [e] at h; exact absurd (J4 _ h) n1
      · rw [updI_n e]; exact J4 x h
    · by_cases e : 21 * u + v = 21 * c + d
      · rw [e, updI_s]
      · rw [updI_n e]; exact J5 u v u0 u1 hv h
  · refine ⟨fun u v u0 u1 hv h => ?_, fun u v u0 u1 hv h => ?_, fun x h => ?_, fun x h => h, fun u v u0 u1 hv h => ?_⟩
    · by_cases e : csT1 n L O R Th m s (21 * u + v) = s (21 * u + v)
      · exact csY_b (hH u0 u1) hv (by rw [eB]; exact Or.inr (Or.inr (Or.inl (by rw [← e]; exact h))))
      · have w := (t0 _ e).2.2.1
        rw [(dv hv).1, (dv hv).2] at w
        exact csY_b (hH u0 u1) hv (itB w)
    · by_cases e : csT1 n L O R Th m s (21 * u + v) = s (21 * u + v)
      · exact ⟨u, v, ⟨⟨u0, u1⟩, hv⟩, by rw [← e]; exact h, csY_b (hH u0 u1) (hH u0 u1) (itB (Or.inl rfl)), csY_b hv hv (itB (Or.inl rfl))⟩
      · have w := (t0 _ e).2.2.2
        rw [w] at h; exact absurd h (by decide)
    · have w := t0 x h
      exact ⟨⟨w.1, w.2.1⟩, Or.inl w.2.2.2⟩
    · by_cases e : csT1 n L O R Th m s (21 * u + v) = s (21 * u + v)
      · rw [e]; exact h
      · have w := (t0 _ e).2.2.1
        rw [(dv hv).1, (dv hv).2] at w
        exact absurd (csY_b (hH u0 u1) hv (itB w)) (hok u v u0 u1 hv h)
  · obtain ⟨J1, J2, J3, J4, J5⟩ := J
    have yes : ∀ {u v : Int}, csH n u → csH n v → csY n B u v → csB s' u v := fun {u v} hu hv h => by
      refine (h (fun x y => csH n x → csH n y → csB s' x y) (fun x y _ _ hb hx hy => ?_) (fun x y z hx hy hz h1 h2 hx' hz' => ?_)) hu hv
      · rcases hx with q | q
        · rw [eB] at hb
          refine Or.inr ?_
          rcases hb with e | e | e | e
          · exact J4 _ (t1 q.1 q.2 hy (Or.inl e))
          · omega
          · by_cases w : s' (21 * x + y) = s (21 * x + y)
            · rw [w]; exact e
            · rcases (J3 _ w).2 with z | z
              · exact z
              · by_cases w2 : csT1 n L O R Th m s (21 * x + y) = s (21 * x + y)
                · exact J4 _ (w2.trans e)
                · exact J4 _ (t0 _ w2).2.2.2
          · exact J4 _ (t1 q.1 q.2 hy (Or.inr e))
        · exact Or.inl q
      · rcases hx with q | q
        · exact Or.inr (c1 x y z q.1 q.2 hy hz (h1 (Or.inl q) hy) (h2 hy hz))
        · exact Or.inl q
    have fin : s' = csCl n L O R Th m s := by
      funext x
      unfold csCl
      rw [← eB]
      by_cases dm : (0 ≤ x ∧ x / 21 < n) ∧ csH n (x % 21)
      · rw [pif_t dm]
        have a0 : 0 ≤ x / 21 := by omega
        have ex : x = 21 * (x / 21) + x % 21 := by omega
        obtain ⟨a, ea⟩ : ∃ a, a = x / 21 := ⟨_, rfl⟩
        obtain ⟨b, eb⟩ : ∃ b, b = x % 21 := ⟨_, rfl⟩
        rw [← ea, ← eb] at ex
        rw [← ea] at a0
        obtain ⟨⟨-, d2⟩, d3⟩ := dm
        rw [← ea] at d2
        rw [← eb] at d3
        rw [← ea, ← eb, ex]
        by_cases y : csY n B a b
        · rw [pif_t y]
          exact (yes (hH a0 d2) d3 y).resolve_left (by omega)
        · rw [pif_f y]
          have n1 : ¬ s' (21 * a + b) = 1 := fun q => y (J1 a b a0 d2 d3 q)
          by_cases no : csNo n B s a b
          · rw [pif_t no]
            obtain ⟨a', b', ⟨p1, p2⟩, p3, p4, p5⟩ := no
            exact c0 a' b' a b p1.1 p1.2 p2 (J5 a' b' p1.1 p1.2 p2 p3) a0 d2 d3 (yes (hH p1.1 p1.2) (hH a0 d2) p4) (yes d3 p2 p5) n1
          · rw [pif_f no]
            have n0 : ¬ s' (21 * a + b) = 0 := fun q => no (J2 a b a0 d2 d3 q)
            by_cases w : s' (21 * a + b) = s (21 * a + b)
            · exact w
            · rcases (J3 _ w).2 with z | z
              · exact absurd z n1
              · exact absurd z n0
      · rw [pif_f dm]
        by_cases w : s' x = s x
        · exact w
        · exact absurd (J3 x w).1 dm
    rw [fin]; exact hp
end

/-! ClassifySort, the reference (X52): the reasoner -/
/-- an axiom can fire -/
def csFi (L O R Th fa : Int → Int) (k : Int) : Prop := ¬ Th k = 0 ∧ ¬ fa (L k) = 0 ∧ (O k < 0 ∨ ¬ fa (O k) = 0) ∧ fa (R k) = 0
/-- the least one that can; m for none -/
noncomputable def csNx (L O R Th : Int → Int) (m : Int) (fa : Int → Int) : Int := fstI (csFi L O R Th fa) m.toNat
/-- from facts fa to a goal g: answer, facts, what fired -/
noncomputable def csRun (L O R Th : Int → Int) (m f g : Int) : Nat → (Int → Int) → List Int → Int × (Int → Int) × List Int
  | 0, fa, l => (0, fa, l)
  | d + 1, fa, l => pif (¬ fa g = 0 ∨ ¬ fa 20 = 0) (1, fa, l) (pif (csNx L O R Th m fa = m) (0, fa, l) (pif ((l.length : Int) = f) (2, fa, l) (csRun L O R Th m f g d (updI fa (R (csNx L O R Th m fa)) 1) (l ++ [csNx L O R Th m fa]))))
/-- axioms have their places -/
def csAx (n : Int) (L O R : Int → Int) (m : Int) : Prop := ∀ k, 0 ≤ k → k < m → (0 ≤ L k ∧ L k < n) ∧ (O k = -1 ∨ (0 ≤ O k ∧ O k < n)) ∧ csH n (R k)
/-- how many facts are wanting -/
noncomputable def csMF (fa : Int → Int) : Int := cntI (fun c => fa c = 0) 21
/-- who made what -/
def csMk (R mk : Int → Int) (l : List Int) : Prop := ∀ c, 0 ≤ c → c ≤ 20 → (mk c = -1 ∧ ∀ k, k ∈ l → R k ≠ c) ∨ (mk c ∈ l ∧ R (mk c) = c)
section
variable {n m f g : Int} {L O R Th fa mk fi : Int → Int} {l : List Int}
theorem csNx_s (hm : 0 ≤ m) : (0 ≤ csNx L O R Th m fa ∧ csNx L O R Th m fa ≤ m) ∧ (csNx L O R Th m fa < m → csFi L O R Th fa (csNx L O R Th m fa)) ∧ ∀ j, 0 ≤ j → j < csNx L O R Th m fa → ¬ csFi L O R Th fa j := by
  have := fstI_s (csFi L O R Th fa) m.toNat
  unfold csNx
  rw [show ((m.toNat : Nat) : Int) = m by omega] at this
  exact this
theorem csMF_dn {c : Int} (hc : 0 ≤ c ∧ c ≤ 20) (h : fa c = 0) : csMF fa = csMF (updI fa c 1) + 1 := by
  have := cntI_u (p := fun x => updI fa c 1 x = 0) (q := fun x => fa x = 0) (x0 := c) hc.1 (by show ¬ updI fa c 1 c = 0; rw [updI_s]; decide) h (fun x hx => by show updI fa c 1 x = 0 ↔ fa x = 0; rw [updI_n hx]) 21
  rw [if_pos (by omega)] at this
  exact this
theorem T52_r54 {K : Int → Prop} (hn : 0 ≤ n ∧ n ≤ 20) (hm : 0 ≤ m ∧ m ≤ 40) (hA : csAx n L O R m) (hp : K (if csNx L O R Th m fa = m then -1 else csNx L O R Th m fa)) : ∃ fu, wX52_reason_54 K L O R Th fa fu (-1) (m - 1) := by
  have S := csNx_s (L := L) (O := O) (R := R) (Th := Th) (fa := fa) hm.1
  refine wl2 (fun d x i => wX52_reason_54 K L O R Th fa d x i) (fun x i => (-1 ≤ i ∧ i < m) ∧ ((x = -1 ∧ ∀ k, i < k → k < m → ¬ csFi L O R Th fa k) ∨ ((i < x ∧ x < m) ∧ csFi L O R Th fa x ∧ ∀ k, i < k → k < x → ¬ csFi L O R Th fa k))) (fun x i => (i + 1).toNat) ?_ (-1) (m - 1) ⟨by omega, Or.inl ⟨rfl, fun k a b => by omega⟩⟩
  rintro x i ⟨hi, hx⟩ d ih
  rw [wX52_reason_54]
  have no : ¬ csFi L O R Th fa i → 0 ≤ i → wX52_reason_122 (wX52_reason_54 K L O R Th fa d) x i := fun h i0 => by
    unfold wX52_reason_122
    refine ⟨fun _ => ⟨by omega, fun _ e => ?_⟩, fun q => absurd rfl q⟩
    rw [e]
    refine ih _ _ ⟨by omega, ?_⟩ (by omega)
    rcases hx with ⟨e1, hx⟩ | ⟨b, hf, hx⟩
    · refine Or.inl ⟨e1, fun k p q => ?_⟩
      by_cases e : k = i
      · subst e; exact h
      · exact hx k (by omega) q
    · refine Or.inr ⟨by omega, hf, fun k p q => ?_⟩
      by_cases e : k = i
      · subst e; exact h
      · exact hx k (by omega) q
  refine ⟨fun z => ?_, fun z => ?_⟩
  · have ei : i = -1 := by omega
    subst ei
    rcases hx with ⟨e1, hx⟩ | ⟨b, hf, hx⟩
    · have : csNx L O R Th m fa = m := by
        by_cases q : csNx L O R Th m fa < m
        · exact absurd (S.2.1 q) (hx _ (by omega) q)
        · omega
      rw [if_pos this] at hp
      rw [e1]; exact hp
    · have : csNx L O R Th m fa = x := fstI_u (by omega) (by omega) (fun _ => hf) (fun j a c => hx j (by omega) c)
      rw [if_neg (by omega), this] at hp
      exact hp
  have ib : 0 ≤ i ∧ i < m := by omega
  have A := hA i ib.1 ib.2
  have r104 : ¬ Th i = 0 → ¬ fa (L i) = 0 → (O i < 0 ∨ ¬ fa (O i) = 0) → wX52_reason_104 (wX52_reason_54 K L O R Th fa d) x i R fa := fun h1 h2 h3 => by
    unfold wX52_reason_104
    have rb := A.2.2
    unfold csH at rb
    refine ⟨by omega, by omega, fun e => ⟨fun q => absurd q (by decide), fun _ => ⟨by omega, fun _ e1 => ?_⟩⟩, fun e => no (fun w => e w.2.2.2) ib.1⟩
    rw [e1]
    exact ih _ _ ⟨by omega, Or.inr ⟨by omega, ⟨h1, h2, h3, e⟩, fun k p q => by omega⟩⟩ (by omega)
  refine ⟨by omega, fun e1 => no (fun w => w.1 e1) ib.1, fun e1 => ⟨by omega, fun e2 => no (fun w => w.2.1 e2) ib.1, fun e2 => ⟨fun e3 => r104 e1 e2 (Or.inl e3), fun e3 => ⟨by omega, fun e4 => no (fun w => w.2.2.1.elim e3 (fun q => q e4)) ib.1, fun e4 => r104 e1 e2 (Or.inr e4)⟩⟩⟩⟩
theorem T52_r26 {K0 K2 K1 : (Int → Int) → (Int → Int) → (Int → Int) → Int → Prop} (hn : 0 ≤ n ∧ n ≤ 20) (hm : 0 ≤ m ∧ m ≤ 40) (hA : csAx n L O R m) (hg : 0 ≤ g ∧ g ≤ 20) : ∀ (d : Nat) (fa mk fi : Int → Int) (l : List Int), csMF fa < d → (l.length : Int) + csMF fa ≤ 21 → vtQ fi 0 l → csMk R mk l → (∀ k, k ∈ l → 0 ≤ k ∧ k < m) → (∀ r fa' mk' fi' l', csRun L O R Th m f g d fa l = (r, fa', l') → vtQ fi' 0 l' → csMk R mk' l' → (∀ k, k ∈ l' → 0 ≤ k ∧ k < m) → (r = 0 → K0 fa' mk' fi' l'.length) ∧ (r = 2 → K2 fa' mk' fi' l'.length) ∧ (r = 1 → K1 fa' mk' fi' l'.length)) → wX52_reason_26 K0 K2 K1 g m f L O R Th d fa mk fi l.length
  | 0, fa, _, _, _, h, _, _, _, _, _ => by
    have := cntI_b (fun c => fa c = 0) 21
    unfold csMF at h
    omega
  | d + 1, fa, mk0, fi, l, h, hl, hq, hk, hb, hp => by
    rw [wX52_reason_26]
    have S := csNx_s (L := L) (O := O) (R := R) (Th := Th) (fa := fa) hm.1
    have yes : (¬ fa g = 0 ∨ ¬ fa 20 = 0) → K1 fa mk0 fi l.length := fun w => (hp 1 fa mk0 fi l (by unfold csRun; exact pif_t w) hq hk hb).2.2 rfl
    refine ⟨by omega, fun e => ⟨fun e2 => ⟨by omega, fun _ e3 => ?_⟩, fun e2 => yes (Or.inr e2)⟩, fun e => yes (Or.inl e)⟩
    have w : ¬ (¬ fa g = 0 ∨ ¬ fa 20 = 0) := fun q => q.elim (fun q => q e) (fun q => q e2)
    rw [e3]
    refine T52_r54 hn hm hA ?_
    by_cases nx : csNx L O R Th m fa = m
    · rw [if_pos nx]
      exact ⟨fun q => absurd q (by decide), fun _ => (hp 0 fa mk0 fi l (by unfold csRun; rw [pif_f w]; exact pif_t nx) hq hk hb).1 rfl⟩
    · rw [if_neg nx]
      have lt : csNx L O R Th m fa < m := by omega
      have F := S.2.1 lt
      have A := (hA _ S.1.1 lt).2.2
      have rb : 0 ≤ R (csNx L O R Th m fa) ∧ R (csNx L O R Th m fa) ≤ 20 := by unfold csH at A; omega
      have dn := csMF_dn rb F.2.2.2
      have mb := cntI_b (fun c => updI fa (R (csNx L O R Th m fa)) 1 c = 0) 21
      have mb' : 0 ≤ csMF (updI fa (R (csNx L O R Th m fa)) 1) := mb.1
      refine ⟨fun _ => ⟨fun e4 => ?_, fun e4 => ⟨by omega, fun _ e5 => ⟨by omega, fun _ e6 => ⟨by omega, by omega, fun _ e7 _ e8 => ?_⟩⟩⟩⟩, fun q => absurd S.1.1 q⟩
      · exact (hp 2 fa mk0 fi l (by unfold csRun; rw [pif_f w, pif_f nx]; exact pif_t e4) hq hk hb).2.1 rfl
      · rw [e5, e6, e7, e8]
        have ll : ((l ++ [csNx L O R Th m fa]).length : Int) = l.length + 1 := by rw [List.length_append, List.length_singleton]; omega
        have q2 := vtQ_one (v := csNx L O R Th m fa) hq
        rw [Int.zero_add] at q2
        rw [← ll]
        refine T52_r26 hn hm hA hg d _ _ _ _ (by omega) (by omega) q2 (fun c c0 c1 => ?_) (fun k hk' => ?_) (fun r fa' mk' fi' l' hr => hp r fa' mk' fi' l' (by
          unfold csRun
          rw [pif_f w, pif_f nx, pif_f e4]; exact hr))
        · by_cases q : c = R (csNx L O R Th m fa)
          · refine Or.inr ?_
            rw [q, updI_s]
            exact ⟨List.mem_append.mpr (Or.inr (List.mem_singleton.mpr rfl)), rfl⟩
          · rw [updI_n q]
            rcases hk c c0 c1 with ⟨a, b⟩ | ⟨a, b⟩
            · refine Or.inl ⟨a, fun k hk' => ?_⟩
              rcases List.mem_append.mp hk' with z | z
              · exact b k z
              · rw [List.mem_singleton] at z; rw [z]; exact fun y => q y.symm
            · exact Or.inr ⟨List.mem_append.mpr (Or.inl a), b⟩
        · rcases List.mem_append.mp hk' with z | z
          · exact hb k z
          · rw [List.mem_singleton] at z; rw [z]; exact ⟨S.1.1, lt⟩
/-- what a question is answered -/
noncomputable def csAn (L O R Th : Int → Int) (m f g : Int) (fa : Int → Int) : Int × (Int → Int) × List Int := csRun L O R Th m f g 22 fa []
theorem T52_reason {post : Int → (Int → Int) → (Int → Int) → (Int → Int) → Int → Prop} (hn : 0 ≤ n ∧ n ≤ 20) (hm : 0 ≤ m ∧ m ≤ 40) (hA : csAx n L O R m) (hg : 0 ≤ g ∧ g ≤ 20) (hp : ∀ r fa' mk' fi' l', csAn L O R Th m f g fa = (r, fa', l') → vtQ fi' 0 l' → csMk R mk' l' → (∀ k, k ∈ l' → 0 ≤ k ∧ k < m) → post r fa' mk' fi' l'.length) : wpX52_reason post m f L O R Th fa mk fi g := by
  unfold wpX52_reason
  refine zl2 (fun d i mk => wX52_reason_7 _ d i mk) (fun i mk => 0 ≤ i ∧ ∀ c, 0 ≤ c → c < i → mk c = -1) 21 ?_ ⟨by decide, fun c a b => by omega⟩ (by decide)
  rintro d i mk ⟨i0, hi⟩ hN ih
  rw [wX52_reason_7]
  refine ⟨fun z => ⟨22, ?_⟩, fun z => ⟨by omega, fun mk2 e1 => ⟨by omega, fun _ e2 => ?_⟩⟩⟩
  · have mb := cntI_b (fun c => fa c = 0) 21
    have mb' : 0 ≤ csMF fa ∧ csMF fa ≤ 21 := mb
    refine T52_r26 hn hm hA hg 22 fa mk fi [] (by omega) (by show ((0 : Nat) : Int) + csMF fa ≤ 21; omega) (fun i hi => absurd hi (Nat.not_lt_zero _)) (fun c c0 c1 => Or.inl ⟨hi c c0 (by omega), fun k h => absurd h (List.not_mem_nil)⟩) (fun k h => absurd h (List.not_mem_nil)) (fun r fa' mk' fi' l' hr h1 h2 h3 => ?_)
    have := hp r fa' mk' fi' l' hr h1 h2 h3
    exact ⟨fun e => by rw [e] at this; exact this, fun e => by rw [e] at this; exact this, fun e => by rw [e] at this; exact this⟩
  · rw [e1, e2]
    refine ih _ (by omega) ⟨by omega, fun c a b => ?_⟩
    by_cases q : c = i
    · subst q; rw [updI_s]
    · rw [updI_n q]; exact hi c a (by omega)
/-- one class alone -/
def csOne (a : Int) : Int → Int := fun c => if c = a then 1 else 0
end

/-! ClassifySort: what follows from axioms; what is known is so -/
/-- c comes out of what P0 says -/
def csDr (L O R Th : Int → Int) (m : Int) (P0 : Int → Prop) (c : Int) : Prop := ∀ P : Int → Prop, (∀ x, P0 x → P x) → (∀ k, 0 ≤ k → k < m → ¬ Th k = 0 → P (L k) → (O k < 0 ∨ P (O k)) → P (R k)) → P c
/-- a is below b -/
def csD (L O R Th : Int → Int) (m a b : Int) : Prop := csDr L O R Th m (fun x => x = a) b ∨ csDr L O R Th m (fun x => x = a) 20
/-- what is known is so -/
def csSd (n : Int) (L O R Th : Int → Int) (m : Int) (s : Int → Int) : Prop := ∀ a b, 0 ≤ a → a < n → csH n b → (s (21 * a + b) = 1 → csD L O R Th m a b) ∧ (s (21 * a + b) = 0 → ¬ csD L O R Th m a b)
section
variable {n m f g a b c : Int} {L O R Th L' O' R' Th' fa fb s : Int → Int} {l : List Int} {P0 : Int → Prop}
theorem csDr_s {x : Int} (h : P0 x) : csDr L O R Th m P0 x := fun _ q _ => q x h
theorem csDr_k {k : Int} (h0 : 0 ≤ k) (h1 : k < m) (h2 : ¬ Th k = 0) (h3 : csDr L O R Th m P0 (L k)) (h4 : O k < 0 ∨ csDr L O R Th m P0 (O k)) : csDr L O R Th m P0 (R k) := fun P q1 q2 => q2 k h0 h1 h2 (h3 P q1 q2) (h4.imp id (fun w => w P q1 q2))
theorem csDr_t {P1 : Int → Prop} (h : csDr L O R Th m P1 c) (h1 : ∀ x, P1 x → csDr L O R Th m P0 x) : csDr L O R Th m P0 c := h _ h1 (fun _ a b d e f => csDr_k a b d e f)
theorem csD_r : csD L O R Th m a a := Or.inl (csDr_s rfl)
theorem csD_20 : csD L O R Th m 20 b := Or.inr (csDr_s rfl)
theorem csD_t (h : csD L O R Th m a b) (h' : csD L O R Th m b c) : csD L O R Th m a c := by
  rcases h with h | h
  · rcases h' with h' | h'
    · exact Or.inl (csDr_t h' (fun x e => by rw [e]; exact h))
    · exact Or.inr (csDr_t h' (fun x e => by rw [e]; exact h))
  · exact Or.inr h
theorem csD_to (h : csTo L O R Th m a b) : csD L O R Th m a b := by
  obtain ⟨k, hk, h1, h2, h3, h4⟩ := h
  refine Or.inl ?_
  rw [← h4]
  exact csDr_k hk.1 hk.2 h1 (csDr_s h2) (Or.inl (by omega))
/-- the least relation holds but what is so -/
theorem csSd_Y (h : csSd n L O R Th m s) (y : csY n (csB0 L O R Th m s) a b) : csD L O R Th m a b := y (csD L O R Th m) (fun x z hx hz w => by
  rcases w with e | e | e | e
  · rw [e]; exact csD_r
  · rw [e]; exact csD_20
  · rcases hx with q | q
    · exact (h x z q.1 q.2 hz).1 e
    · rw [q]; exact csD_20
  · exact csD_to e) (fun _ _ _ _ _ _ h1 h2 => csD_t h1 h2)
theorem csSd_ok (h : csSd n L O R Th m s) : csOk n L O R Th m s := fun a b h0 h1 h2 z y => (h a b h0 h1 h2).2 z (csSd_Y h y)
/-- closing keeps it -/
theorem csSd_cl (hn : n ≤ 20) (h : csSd n L O R Th m s) : csSd n L O R Th m (csCl n L O R Th m s) := fun a b a0 a1 hb => by
  have e1 : (21 * a + b) / 21 = a := by unfold csH at hb; omega
  have e2 : (21 * a + b) % 21 = b := by unfold csH at hb; omega
  have dm : (0 ≤ 21 * a + b ∧ (21 * a + b) / 21 < n) ∧ csH n ((21 * a + b) % 21) := by rw [e1, e2]; exact ⟨by unfold csH at hb; omega, hb⟩
  unfold csCl
  rw [pif_t dm, e1, e2]
  by_cases y : csY n (csB0 L O R Th m s) a b
  · rw [pif_t y]; exact ⟨fun _ => csSd_Y h y, fun q => absurd q (by decide)⟩
  · rw [pif_f y]
    by_cases no : csNo n (csB0 L O R Th m s) s a b
    · rw [pif_t no]
      refine ⟨fun q => absurd q (by decide), fun _ d => ?_⟩
      obtain ⟨a', b', ⟨p1, p2⟩, p3, p4, p5⟩ := no
      exact (h a' b' p1.1 p1.2 p2).2 p3 (csD_t (csSd_Y h p4) (csD_t d (csSd_Y h p5)))
    · rw [pif_f no]; exact h a b a0 a1 hb
/-- the reasoner is right -/
theorem csRun_s (hm : 0 ≤ m) (hA : csAx n L O R m) : ∀ (d : Nat) (fa : Int → Int) (l : List Int) (r : Int) (fa' : Int → Int) (l' : List Int), (∀ x, P0 x → ¬ fa x = 0) → (∀ x, 0 ≤ x → x ≤ 20 → ¬ fa x = 0 → csDr L O R Th m P0 x) → (0 ≤ g ∧ g ≤ 20) → csMF fa < d → csRun L O R Th m f g d fa l = (r, fa', l') → (n ≤ 20) → (r = 1 → csDr L O R Th m P0 g ∨ csDr L O R Th m P0 20) ∧ (r = 0 → ¬ (csDr L O R Th m P0 g ∨ csDr L O R Th m P0 20)) ∧ (r = 0 ∨ r = 1 ∨ r = 2)
  | 0, fa, l, r, fa', l', _, _, _, h, _, _ => by
    have := cntI_b (fun c => fa c = 0) 21
    unfold csMF at h
    omega
  | d + 1, fa, l, r, fa', l', h1, h2, hg, h, hr, hn => by
    have S := csNx_s (L := L) (O := O) (R := R) (Th := Th) (fa := fa) hm
    unfold csRun at hr
    by_cases w : ¬ fa g = 0 ∨ ¬ fa 20 = 0
    · rw [pif_t w] at hr
      have e := congrArg Prod.fst hr
      have e : 1 = r := e
      refine ⟨fun _ => w.imp (h2 g hg.1 hg.2) (h2 20 (by decide) (by decide)), fun q => by omega, by omega⟩
    · rw [pif_f w] at hr
      by_cases nx : csNx L O R Th m fa = m
      · rw [pif_t nx] at hr
        have e : 0 = r := congrArg Prod.fst hr
        refine ⟨fun q => by omega, fun _ q => w ?_, by omega⟩
        have cl : ∀ x, csDr L O R Th m P0 x → ¬ fa x = 0 := fun x hx => hx (fun x => ¬ fa x = 0) h1 (fun k k0 k1 t p q z => S.2.2 k k0 (by omega) ⟨t, p, q, z⟩)
        exact q.imp (cl g) (cl 20)
      · rw [pif_f nx] at hr
        have lt : csNx L O R Th m fa < m := by omega
        have F := S.2.1 lt
        by_cases fu : (l.length : Int) = f
        · rw [pif_t fu] at hr
          have e : 2 = r := congrArg Prod.fst hr
          exact ⟨fun q => by omega, fun q => by omega, by omega⟩
        · rw [pif_f fu] at hr
          have A := hA _ S.1.1 lt
          have rb : 0 ≤ R (csNx L O R Th m fa) ∧ R (csNx L O R Th m fa) ≤ 20 := by have := A.2.2; unfold csH at this; omega
          have dn := csMF_dn rb F.2.2.2
          refine csRun_s hm hA d _ _ r fa' l' (fun x hx => ?_) (fun x x0 x1 hx => ?_) hg (by omega) hr hn
          · by_cases q : x = R (csNx L O R Th m fa)
            · rw [q, updI_s]; decide
            · rw [updI_n q]; exact h1 x hx
          · by_cases q : x = R (csNx L O R Th m fa)
            · rw [q]
              refine csDr_k S.1.1 lt F.1 (h2 _ A.1.1 (by omega) F.2.1) ?_
              rcases A.2.1 with z | z
              · exact Or.inl (by omega)
              · exact F.2.2.1.imp id (h2 _ z.1 (by omega))
            · rw [updI_n q] at hx; exact h2 x x0 x1 hx
/-- only facts up to 20 matter -/
theorem csNx_c (hm : 0 ≤ m) (hn : n ≤ 20) (hA : csAx n L O R m) (h : ∀ x, 0 ≤ x → x ≤ 20 → fa x = fb x) : csNx L O R Th m fa = csNx L O R Th m fb := by
  have Sb := csNx_s (L := L) (O := O) (R := R) (Th := Th) (fa := fb) hm
  have eq : ∀ k, 0 ≤ k → k < m → (csFi L O R Th fa k ↔ csFi L O R Th fb k) := fun k k0 k1 => by
    have A := hA k k0 k1
    have rb := A.2.2
    unfold csH at rb
    unfold csFi
    rw [h (L k) A.1.1 (by omega), h (R k) (by omega) (by omega)]
    rcases A.2.1 with z | z
    · exact ⟨fun w => ⟨w.1, w.2.1, Or.inl (by omega), w.2.2.2⟩, fun w => ⟨w.1, w.2.1, Or.inl (by omega), w.2.2.2⟩⟩
    · rw [h (O k) z.1 (by omega)]
  exact fstI_u (by omega) (by omega) (fun q => (eq _ Sb.1.1 (by omega)).mpr (Sb.2.1 (by omega))) (fun j a b => fun w => Sb.2.2 j a b ((eq j a (by omega)).mp w))
theorem csRun_c (hm : 0 ≤ m) (hn : n ≤ 20) (hA : csAx n L O R m) (hg : 0 ≤ g ∧ g ≤ 20) : ∀ (d : Nat) (fa fb : Int → Int) (l : List Int), (∀ x, 0 ≤ x → x ≤ 20 → fa x = fb x) → (csRun L O R Th m f g d fa l).1 = (csRun L O R Th m f g d fb l).1 ∧ (csRun L O R Th m f g d fa l).2.2 = (csRun L O R Th m f g d fb l).2.2
  | 0, _, _, _, _ => ⟨rfl, rfl⟩
  | d + 1, fa, fb, l, h => by
    have e := csNx_c (Th := Th) hm hn hA h
    unfold csRun
    rw [h g hg.1 hg.2, h 20 (by decide) (by decide), e]
    by_cases w : ¬ fb g = 0 ∨ ¬ fb 20 = 0
    · rw [pif_t w, pif_t w]; exact ⟨rfl, rfl⟩
    · rw [pif_f w, pif_f w]
      by_cases nx : csNx L O R Th m fb = m
      · rw [pif_t nx, pif_t nx]; exact ⟨rfl, rfl⟩
      · rw [pif_f nx, pif_f nx]
        by_cases fu : (l.length : Int) = f
        · rw [pif_t fu, pif_t fu]; exact ⟨rfl, rfl⟩
        · rw [pif_f fu, pif_f fu]
          exact csRun_c hm hn hA hg d _ _ _ (fun x x0 x1 => by
            by_cases q : x = R (csNx L O R Th m fb)
            · rw [q, updI_s, updI_s]
            · rw [updI_n q, updI_n q]; exact h x x0 x1)
end

/-! ClassifySort, the reference (X52): what an axiom touches; forgetting -/
/-- the module of a -/
def csM (L O R Th : Int → Int) (m a c : Int) : Prop := ∀ P : Int → Prop, P a → (∀ k, 0 ≤ k → k < m → ¬ Th k = 0 → (P (L k) ∨ (0 ≤ O k ∧ P (O k))) → P (L k) ∧ (0 ≤ O k → P (O k)) ∧ P (R k)) → P c
/-- an axiom touches a -/
def csTc (L O R Th : Int → Int) (m a x : Int) : Prop := csM L O R Th m a (L x) ∨ (0 ≤ O x ∧ csM L O R Th m a (O x))
section
variable {n m f g a b c x : Int} {L O R Th L' O' R' Th' fa fb s mo : Int → Int} {l : List Int}
theorem csM_s : csM L O R Th m a a := fun _ q _ => q
theorem csM_k {k : Int} (h0 : 0 ≤ k) (h1 : k < m) (h2 : ¬ Th k = 0) (h3 : csM L O R Th m a (L k) ∨ (0 ≤ O k ∧ csM L O R Th m a (O k))) : csM L O R Th m a (L k) ∧ (0 ≤ O k → csM L O R Th m a (O k)) ∧ csM L O R Th m a (R k) :=
  ⟨fun P q1 q2 => (q2 k h0 h1 h2 (h3.imp (fun w => w P q1 q2) (fun w => ⟨w.1, w.2 P q1 q2⟩))).1, fun o P q1 q2 => (q2 k h0 h1 h2 (h3.imp (fun w => w P q1 q2) (fun w => ⟨w.1, w.2 P q1 q2⟩))).2.1 o, fun P q1 q2 => (q2 k h0 h1 h2 (h3.imp (fun w => w P q1 q2) (fun w => ⟨w.1, w.2 P q1 q2⟩))).2.2⟩
/-- closed under an axiom -/
def csMc (L O R Th mo : Int → Int) (k : Int) : Prop := ¬ Th k = 0 → (¬ mo (L k) = 0 ∨ (0 ≤ O k ∧ ¬ mo (O k) = 0)) → ¬ mo (L k) = 0 ∧ (0 ≤ O k → ¬ mo (O k) = 0) ∧ ¬ mo (R k) = 0
theorem csMF_le {fa fb : Int → Int} (h : ∀ c, 0 ≤ c → c ≤ 20 → fb c = 0 → fa c = 0) : csMF fb ≤ csMF fa := by
  have : ∀ N : Nat, N ≤ 21 → cntI (fun c => fb c = 0) N ≤ cntI (fun c => fa c = 0) N := by
    intro N
    induction N with
    | zero => intro _; exact Int.le_refl _
    | succ N ih =>
      intro hN
      have q := ih (by omega)
      show cntI _ N + pif _ 1 0 ≤ cntI _ N + pif _ 1 0
      by_cases w : fb N = 0
      · rw [pif_t (show fb (N : Int) = 0 from w), pif_t (show fa (N : Int) = 0 from h N (by omega) (by omega) w)]; omega
      · rw [pif_f (show ¬ fb (N : Int) = 0 from w)]
        by_cases w2 : fa N = 0
        · rw [pif_t (show fa (N : Int) = 0 from w2)]; omega
        · rw [pif_f (show ¬ fa (N : Int) = 0 from w2)]; omega
  exact this 21 (Nat.le_refl _)
theorem T52_t41 {K : Int → (Int → Int) → Prop} (hn : 0 ≤ n ∧ n ≤ 20) (hm : 0 ≤ m ∧ m ≤ 40) (hA : csAx n L O R m) (hmo : (∀ c, 0 ≤ c → c ≤ 20 → ¬ mo c = 0 → csM L O R Th m a c)) (hp : ∀ x' mo', (x' = 0 ∨ x' = 1) → (∀ c, 0 ≤ c → c ≤ 20 → ¬ mo' c = 0 → csM L O R Th m a c) → (∀ c, ¬ mo c = 0 → ¬ mo' c = 0) → (x' = 1 → csMF mo' < csMF mo) → (x' = 0 → ∀ k, 0 ≤ k → k < m → csMc L O R Th mo' k) → K x' mo') : ∃ fu, wX52_isTouched_41 K m L O R Th fu 0 0 mo := by
  refine wl3 (fun d x i mo' => wX52_isTouched_41 K m L O R Th d x i mo') (fun x i mo' => (0 ≤ i ∧ i ≤ m) ∧ (x = 0 ∨ x = 1) ∧ (∀ c, 0 ≤ c → c ≤ 20 → ¬ mo' c = 0 → csM L O R Th m a c) ∧ (∀ c, ¬ mo c = 0 → ¬ mo' c = 0) ∧ (x = 1 → csMF mo' < csMF mo) ∧ (x = 0 → mo' = mo ∧ ∀ k, 0 ≤ k → k < i → csMc L O R Th mo' k)) (fun _ i _ => (m - i).toNat) ?_ 0 0 mo ⟨by omega, Or.inl rfl, hmo, fun _ h => h, fun q => absurd q (by decide), fun _ => ⟨rfl, fun k p q => by omega⟩⟩
  rintro x i mo' ⟨hi, hx, h1, h2, h3, h4⟩ d ih
  rw [wX52_isTouched_41]
  refine ⟨fun z => hp x mo' hx h1 h2 h3 (fun q k p r => (h4 q).2 k p (by omega)), fun z => ?_⟩
  have ib : 0 ≤ i ∧ i < m := by omega
  obtain ⟨A1, A2, A3⟩ := hA i ib.1 ib.2
  have rb : 0 ≤ R i ∧ R i < 21 := by unfold csH at A3; omega
  have ob : ¬ O i < 0 → 0 ≤ O i ∧ O i < 21 := fun q => by rcases A2 with w | w <;> omega
  have same : csMc L O R Th mo' i → (zR (i + 1) ∧ ∀ y : Int, y = i + 1 → wX52_isTouched_41 K m L O R Th d x y mo') := fun hc => ⟨by omega, fun _ e => by
    rw [e]
    refine ih _ _ _ ⟨by omega, hx, h1, h2, h3, fun q => ⟨(h4 q).1, fun k p r => ?_⟩⟩ (by omega)
    by_cases q2 : k = i
    · subst q2; exact hc
    · exact (h4 q).2 k p (by omega)⟩
  have up : ∀ mo2 : Int → Int, (∀ c, ¬ mo' c = 0 → ¬ mo2 c = 0) → (∀ c, 0 ≤ c → c ≤ 20 → ¬ mo2 c = 0 → csM L O R Th m a c) → csMF mo2 < csMF mo' → (zR (i + 1) ∧ ∀ y : Int, y = i + 1 → wX52_isTouched_41 K m L O R Th d 1 y mo2) := fun mo2 u1 u2 u3 => ⟨by omega, fun _ e => by
    rw [e]
    refine ih _ _ _ ⟨by omega, Or.inr rfl, u2, fun c w => u1 c (h2 c w), fun _ => ?_, fun q => absurd q (by decide)⟩ (by omega)
    rcases hx with q | q
    · rw [(h4 q).1] at u3; exact u3
    · have := h3 q; omega⟩
  -- the last step: on, and not all of it there
  have fin : ∀ on all : Int, (on = 0 → csMc L O R Th mo' i) → (¬ all = 0 → csMc L O R Th mo' i) → (¬ on = 0 → ¬ Th i = 0 ∧ (¬ mo' (L i) = 0 ∨ (0 ≤ O i ∧ ¬ mo' (O i) = 0))) → (all = 0 → mo' (L i) = 0 ∨ (0 ≤ O i ∧ mo' (O i) = 0) ∨ mo' (R i) = 0) → wX52_isTouched_167 (wX52_isTouched_41 K m L O R Th d) x i on all L O R mo' := fun on all f1 f2 f3 f4 => by
    unfold wX52_isTouched_167
    refine ⟨fun e => same (f1 e), fun e => ⟨fun e2 => ?_, fun e2 => same (f2 e2)⟩⟩
    obtain ⟨t, o⟩ := f3 e
    have M := csM_k (a := a) ib.1 ib.2 t (o.imp (h1 _ A1.1 (by omega)) (fun w => ⟨w.1, h1 _ w.1 (by have := ob (by omega); omega) w.2⟩))
    refine ⟨by omega, by omega, fun m1 e3 => ⟨fun e4 => ⟨rb, fun m2 e5 => ?_⟩, fun e4 => ⟨ob e4, fun m2 e5 => ⟨rb, fun m3 e6 => ?_⟩⟩⟩⟩
    · have hit : ∀ c, m2 c = if c = L i ∨ c = R i then 1 else mo' c := fun c => by
        rw [e5, e3]
        by_cases q : c = R i
        · rw [q, updI_s, if_pos (Or.inr rfl)]
        · rw [updI_n q]
          by_cases q2 : c = L i
          · rw [q2, updI_s, if_pos (Or.inl rfl)]
          · rw [updI_n q2, if_neg (fun w => w.elim q2 q)]
      have w1 : ∀ c, ¬ mo' c = 0 → ¬ m2 c = 0 := fun c w => by rw [hit]; split <;> first | decide | exact w
      refine up m2 w1 (fun c c0 c1 w => ?_) ?_
      · rw [hit] at w
        by_cases q : c = L i ∨ c = R i
        · rcases q with q | q
          · rw [q]; exact M.1
          · rw [q]; exact M.2.2
        · rw [if_neg q] at w; exact h1 c c0 c1 w
      · rcases f4 e2 with q | q | q
        · have dn := csMF_dn (c := L i) ⟨A1.1, by omega⟩ q
          have le := csMF_le (fa := updI mo' (L i) 1) (fb := m2) (fun c _ _ w => by
            rw [hit] at w
            by_cases q2 : c = L i ∨ c = R i
            · rw [if_pos q2] at w; exact absurd w (by decide)
            · rw [if_neg q2] at w; rw [updI_n (fun q3 => q2 (Or.inl q3))]; exact w)
          omega
        · omega
        · have dn := csMF_dn (c := R i) ⟨rb.1, by omega⟩ q
          have le := csMF_le (fa := updI mo' (R i) 1) (fb := m2) (fun c _ _ w => by
            rw [hit] at w
            by_cases q2 : c = L i ∨ c = R i
            · rw [if_pos q2] at w; exact absurd w (by decide)
            · rw [if_neg q2] at w; rw [updI_n (fun q3 => q2 (Or.inr q3))]; exact w)
          omega
    · have hit : ∀ c, m3 c = if c = L i ∨ c = O i ∨ c = R i then 1 else mo' c := fun c => by
        rw [e6, e5, e3]
        by_cases q : c = R i
        · rw [q, updI_s, if_pos (Or.inr (Or.inr rfl))]
        · rw [updI_n q]
          by_cases q1 : c = O i
          · rw [q1, updI_s, if_pos (Or.inr (Or.inl rfl))]
          · rw [updI_n q1]
            by_cases q2 : c = L i
            · rw [q2, updI_s, if_pos (Or.inl rfl)]
            · rw [updI_n q2, if_neg (fun w => w.elim q2 (fun w => w.elim q1 q))]
      have w1 : ∀ c, ¬ mo' c = 0 → ¬ m3 c = 0 := fun c w => by rw [hit]; split <;> first | decide | exact w
      have lt : ∀ y, 0 ≤ y → y ≤ 20 → (y = L i ∨ y = O i ∨ y = R i) → mo' y = 0 → csMF m3 < csMF mo' := fun y y0 y1 hy q => by
        have dn := csMF_dn (c := y) ⟨y0, y1⟩ q
        have le := csMF_le (fa := updI mo' y 1) (fb := m3) (fun c _ _ w => by
          rw [hit] at w
          by_cases q2 : c = L i ∨ c = O i ∨ c = R i
          · rw [if_pos q2] at w; exact absurd w (by decide)
          · rw [if_neg q2] at w; rw [updI_n (fun q3 => q2 (by rw [q3]; exact hy))]; exact w)
        omega
      have ob' := ob e4
      refine up m3 w1 (fun c c0 c1 w => ?_) ?_
      · rw [hit] at w
        by_cases q : c = L i ∨ c = O i ∨ c = R i
        · rcases q with q | q | q
          · rw [q]; exact M.1
          · rw [q]; exact M.2.1 ob'.1
          · rw [q]; exact M.2.2
        · rw [if_neg q] at w; exact h1 c c0 c1 w
      · rcases f4 e2 with q | q | q
        · exact lt _ A1.1 (by omega) (Or.inl rfl) q
        · exact lt _ q.1 (by omega) (Or.inr (Or.inl rfl)) q.2
        · exact lt _ rb.1 (by omega) (Or.inr (Or.inr rfl)) q
  have s105 : ∀ on : Int, (on = 0 → csMc L O R Th mo' i) → (¬ on = 0 → ¬ Th i = 0 ∧ (¬ mo' (L i) = 0 ∨ (0 ≤ O i ∧ ¬ mo' (O i) = 0))) → wX52_isTouched_105 (wX52_isTouched_41 K m L O R Th d) x i on L O R mo' := fun on f1 f3 => by
    unfold wX52_isTouched_105
    refine ⟨by omega, by omega, fun e => fin on 0 f1 (fun q => absurd rfl q) f3 (fun _ => Or.inl e), fun e => ⟨fun e1 => ⟨rb, fun e2 => fin on 0 f1 (fun q => absurd rfl q) f3 (fun _ => Or.inr (Or.inr e2)), fun e2 => fin on 1 f1 (fun _ _ _ => ⟨e, fun q => by omega, e2⟩) f3 (fun q => absurd q (by decide))⟩, fun e1 => ⟨ob e1, fun e2 => fin on 0 f1 (fun q => absurd rfl q) f3 (fun _ => Or.inr (Or.inl ⟨(ob e1).1, e2⟩)), fun e2 => ⟨rb, fun e3 => fin on 0 f1 (fun q => absurd rfl q) f3 (fun _ => Or.inr (Or.inr e3)), fun e3 => fin on 1 f1 (fun _ _ _ => ⟨e, fun _ => e2, e3⟩) f3 (fun q => absurd q (by decide))⟩⟩⟩⟩
  refine ⟨by omega, fun e => s105 0 (fun _ q => absurd e q) (fun q => absurd rfl q), fun e => ⟨by omega, fun e1 => ⟨fun e2 => s105 0 (fun _ _ w => w.elim (fun q => absurd e1 q) (fun q => by omega)) (fun q => absurd rfl q), fun e2 => ⟨ob e2, fun e3 => s105 0 (fun _ _ w => w.elim (fun q => absurd e1 q) (fun q => absurd e3 q.2)) (fun q => absurd rfl q), fun e3 => s105 1 (fun q => absurd q (by decide)) (fun _ => ⟨e, Or.inr ⟨(ob e2).1, e3⟩⟩)⟩⟩, fun e1 => s105 1 (fun q => absurd q (by decide)) (fun _ => ⟨e, Or.inl e1⟩)⟩⟩
theorem T52_touchedB {P : Int → (Int → Int) → Prop} (hn : 0 ≤ n ∧ n ≤ 20) (hm : 0 ≤ m ∧ m ≤ 40) (hA : csAx n L O R m) (ha : 0 ≤ a ∧ a < n) (hx : 0 ≤ x ∧ x < m) (h1 : csTc L O R Th m a x → ∀ mo', P 1 mo') (h0 : ¬ csTc L O R Th m a x → ∀ mo', P 0 mo') : wpX52_isTouched P m L O R Th mo a x := by
  unfold wpX52_isTouched
  refine zl2 (fun d i mo' => wX52_isTouched_2 _ a d i mo') (fun i mo' => 0 ≤ i ∧ ∀ c, 0 ≤ c → c < i → mo' c = if c = a then 1 else 0) 21 ?_ ⟨by decide, fun c p q => by omega⟩ (by decide)
  rintro d i mo' ⟨i0, hi⟩ hN ih
  rw [wX52_isTouched_2]
  refine ⟨fun z => ?_, fun z => ⟨fun e => ⟨by omega, fun _ e1 => ⟨by omega, fun _ e2 => ?_⟩⟩, fun e => ⟨by omega, fun _ e1 => ⟨by omega, fun _ e2 => ?_⟩⟩⟩⟩
  · refine wl2 (fun d x3 mo' => wX52_isTouched_32 _ m L O R Th d x3 mo') (fun x3 mo' => (x3 = 0 ∨ x3 = 1) ∧ (∀ c, 0 ≤ c → c ≤ 20 → ¬ mo' c = 0 → csM L O R Th m a c) ∧ ¬ mo' a = 0 ∧ (x3 = 0 → ∀ k, 0 ≤ k → k < m → csMc L O R Th mo' k)) (fun x3 mo' => (csMF mo' + x3).toNat) ?_ 1 mo' ⟨Or.inr rfl, fun c c0 c1 w => ?_, ?_, fun q => absurd q (by decide)⟩
    · rintro x3 mo1 ⟨hx3, j1, j2, j3⟩ d2 ih2
      have mb := cntI_b (fun c => mo1 c = 0) 21
      have mb' : 0 ≤ csMF mo1 := mb.1
      rw [wX52_isTouched_32]
      refine ⟨fun e => ?_, fun e => T52_t41 hn hm hA j1 (fun x' mo2 k1 k2 k3 k4 k5 => ih2 x' mo2 ⟨k1, k2, k3 a j2, k5⟩ ?_)⟩
      · have cl : ∀ c, csM L O R Th m a c → ¬ mo1 c = 0 := fun c hc => hc (fun c => ¬ mo1 c = 0) j2 (fun k k0 k1 t w => j3 e k k0 k1 t w)
        obtain ⟨A1, A2, A3⟩ := hA x hx.1 hx.2
        refine ⟨by omega, by omega, fun e1 => ⟨fun e2 => h0 (fun w => ?_) _, fun e2 => ⟨by rcases A2 with w | w <;> omega, fun e3 => h0 (fun w => ?_) _, fun e3 => h1 (Or.inr ⟨by omega, j1 _ (by omega) (by rcases A2 with w | w <;> omega) e3⟩) _⟩⟩, fun e1 => h1 (Or.inl (j1 _ A1.1 (by omega) e1)) _⟩
        · rcases w with w | w
          · exact cl _ w e1
          · omega
        · rcases w with w | w
          · exact cl _ w e1
          · exact cl _ w.2 e3
      · have mb2 := cntI_b (fun c => mo2 c = 0) 21
        have mb2' : 0 ≤ csMF mo2 := mb2.1
        have le : csMF mo2 ≤ csMF mo1 := csMF_le (fun c _ _ w => by
          by_cases q : mo1 c = 0
          · exact q
          · exact absurd w (k3 c q))
        rcases k1 with q | q
        · omega
        · have := k4 q; omega
    · rw [hi c c0 (by omega)] at w
      by_cases q : c = a
      · rw [q]; exact csM_s
      · rw [if_neg q] at w; exact absurd rfl w
    · rw [hi a ha.1 (by omega), if_pos rfl]; decide
  · rw [e1, e2]
    refine ih _ (by omega) ⟨by omega, fun c p q => ?_⟩
    by_cases w : c = i
    · rw [w, updI_s, if_pos e]
    · rw [updI_n w]; exact hi c p (by omega)
  · rw [e1, e2]
    refine ih _ (by omega) ⟨by omega, fun c p q => ?_⟩
    by_cases w : c = i
    · rw [w, updI_s, if_neg e]
    · rw [updI_n w]; exact hi c p (by omega)
/-- what is forgotten -/
noncomputable def csFg (n : Int) (L O R Th : Int → Int) (m x one : Int) (s : Int → Int) : Int → Int := fun y => pif ((0 ≤ y ∧ y / 21 < n) ∧ csTc L O R Th m (y / 21) x ∧ (s y = one ∨ s y = 2)) 3 (s y)
theorem T52_forget {post : (Int → Int) → (Int → Int) → Prop} {one : Int} (hn : 0 ≤ n ∧ n ≤ 20) (hm : 0 ≤ m ∧ m ≤ 40) (hA : csAx n L O R m) (hx : 0 ≤ x ∧ x < m) (hp : ∀ mo', post (csFg n L O R Th m x one s) mo') : wpX52_forget post n m L O R Th s mo x one := by
  unfold wpX52_forget
  refine wl3 (fun d i s' mo' => wX52_forget_2 _ x one n m L O R Th d i s' mo') (fun i s' _ => (0 ≤ i ∧ i ≤ n) ∧ ∀ y, s' y = pif ((0 ≤ y ∧ y < 21 * i) ∧ csTc L O R Th m (y / 21) x ∧ (s y = one ∨ s y = 2)) 3 (s y)) (fun i _ _ => (n - i).toNat) ?_ 0 s mo ⟨by omega, fun y => (pif_f (fun w => by omega)).symm⟩
  rintro i s' mo' ⟨hi, hs⟩ d ih
  rw [wX52_forget_2]
  refine ⟨fun z => ?_, fun z => T52_touchedB hn hm hA ⟨hi.1, by omega⟩ hx (fun tc mo2 => ⟨fun q => absurd q (by decide), fun _ => ?_⟩) (fun tc mo2 => ⟨fun _ => ⟨by omega, fun _ e1 => ?_⟩, fun q => absurd rfl q⟩)⟩
  · have : s' = csFg n L O R Th m x one s := by
      funext y
      rw [hs]
      exact pif_c ⟨fun w => ⟨by omega, w.2⟩, fun w => ⟨by omega, w.2⟩⟩
    rw [this]; exact hp mo'
  · refine wl2 (fun d j s2 => wX52_forget_22 _ one i d j s2) (fun j s2 => (0 ≤ j ∧ j ≤ 21) ∧ ∀ y, s2 y = pif ((21 * i ≤ y ∧ y < 21 * i + j) ∧ (s' y = one ∨ s' y = 2)) 3 (s' y)) (fun j _ => (21 - j).toNat) ?_ 0 s' ⟨by decide, fun y => (pif_f (fun w => by omega)).symm⟩
    rintro j s2 ⟨hj, hs2⟩ d2 ih2
    rw [wX52_forget_22]
    have cur : s2 (21 * i + j) = s' (21 * i + j) := by rw [hs2]; exact pif_f (fun w => by omega)
    have set3 : (s' (21 * i + j) = one ∨ s' (21 * i + j) = 2) → j < 21 → ∀ s3 : Int → Int, s3 = updI s2 (21 * i + j) 3 → (zR (j + 1) ∧ ∀ y : Int, y = j + 1 → wX52_forget_22 _ one i d2 y s3) := fun w lt s3 e3 => ⟨by omega, fun _ e => by
      rw [e, e3]
      refine ih2 _ _ ⟨by omega, fun y => ?_⟩ (by omega)
      by_cases q : y = 21 * i + j
      · rw [q, updI_s, pif_t ⟨by omega, w⟩]
      · rw [updI_n q, hs2]
        exact pif_c ⟨fun w => ⟨by omega, w.2⟩, fun w => ⟨by omega, w.2⟩⟩⟩
    refine ⟨fun z2 => ⟨by omega, fun _ e1 => ?_⟩, fun z2 => ⟨by omega, fun v ev => ⟨fun e s3 e3 => set3 (Or.inl (by rw [← cur, ← ev]; exact e)) (by omega) s3 e3, fun e => ⟨fun e2 s3 e3 => set3 (Or.inr (by rw [← cur, ← ev]; exact e2)) (by omega) s3 e3, fun e2 => ⟨by omega, fun _ e3 => ?_⟩⟩⟩⟩⟩
    · rw [e1]
      refine ih _ _ _ ⟨by omega, fun y => ?_⟩ (by omega)
      rw [hs2, hs]
      by_cases q : 21 * i ≤ y ∧ y < 21 * i + 21
      · have ey : y / 21 = i := by omega
        rw [ey, pif_f (fun w => by omega) (P := (0 ≤ y ∧ y < 21 * i) ∧ csTc L O R Th m i x ∧ (s y = one ∨ s y = 2))]
        exact pif_c ⟨fun w => ⟨by omega, tc, w.2⟩, fun w => ⟨by omega, w.2.2⟩⟩
      · rw [pif_f (fun w => q (by omega))]
        exact pif_c ⟨fun w => ⟨by omega, w.2⟩, fun w => ⟨by omega, w.2⟩⟩
    · rw [e3]
      rw [ev, cur] at e e2
      refine ih2 _ _ ⟨by omega, fun y => ?_⟩ (by omega)
      rw [hs2]
      refine pif_c ⟨fun w => ⟨by omega, w.2⟩, fun w => ⟨?_, w.2⟩⟩
      by_cases q : y = 21 * i + j
      · rw [q] at w; exact absurd w.2 (fun w => w.elim e e2)
      · omega
  · rw [e1]
    refine ih _ _ _ ⟨by omega, fun y => ?_⟩ (by omega)
    rw [hs]
    refine pif_c ⟨fun w => ⟨by omega, w.2⟩, fun w => ⟨?_, w.2⟩⟩
    by_cases q : y < 21 * i
    · omega
    · have ey : y / 21 = i := by omega
      rw [ey] at w; exact absurd w.2.1 tc
end

/-! ClassifySort: what is known stays so; the reference (X52): a look -/
section
variable {n m f g a b c x : Int} {L O R Th L' O' R' Th' fa fb s mk fi : Int → Int} {l : List Int} {P0 : Int → Prop}
/-- more axioms, more follows -/
theorem csDr_m {m' : Int} (hle : m ≤ m') (h : ∀ k, 0 ≤ k → k < m → L' k = L k ∧ O' k = O k ∧ R' k = R k ∧ (¬ Th k = 0 → ¬ Th' k = 0)) (d : csDr L O R Th m P0 c) : csDr L' O' R' Th' m' P0 c := fun P q1 q2 => d P q1 (fun k k0 k1 t p q => by
  obtain ⟨e1, e2, e3, e4⟩ := h k k0 k1
  have := q2 k k0 (by omega) (e4 t)
  rw [e1, e2, e3] at this
  exact this p q)
/-- an axiom that does not touch a gives nothing to it -/
theorem csDr_l {m' : Int} (h : ∀ k, 0 ≤ k → k < m' → k ≠ x → ¬ Th' k = 0 → k < m ∧ L k = L' k ∧ O k = O' k ∧ R k = R' k ∧ ¬ Th k = 0) (hO : ∀ k, 0 ≤ k → k < m' → O' k = -1 ∨ 0 ≤ O' k) (ht : ¬ csTc L' O' R' Th' m' a x) (d : csDr L' O' R' Th' m' (fun z => z = a) c) : csDr L O R Th m (fun z => z = a) c := by
  refine (d (fun c => csDr L O R Th m (fun z => z = a) c ∧ csM L' O' R' Th' m' a c) (fun z e => ⟨csDr_s e, by rw [e]; exact csM_s⟩) (fun k k0 k1 t p q => ?_)).1
  have M := csM_k k0 k1 t (Or.inl p.2)
  by_cases e : k = x
  · rw [e] at p; exact absurd (Or.inl p.2) ht
  · obtain ⟨km, e1, e2, e3, e4⟩ := h k k0 k1 e t
    refine ⟨?_, M.2.2⟩
    rw [← e3]
    refine csDr_k k0 km e4 (by rw [e1]; exact p.1) ?_
    rw [e2]
    exact q.imp id (fun w => w.1)
theorem csD_m {m' : Int} (hle : m ≤ m') (h : ∀ k, 0 ≤ k → k < m → L' k = L k ∧ O' k = O k ∧ R' k = R k ∧ (¬ Th k = 0 → ¬ Th' k = 0)) (d : csD L O R Th m a b) : csD L' O' R' Th' m' a b := d.imp (csDr_m hle h) (csDr_m hle h)
theorem csFg_e {one : Int} (hn : n ≤ 20) (ha : 0 ≤ a ∧ a < n) (hb : csH n b) : csFg n L O R Th m x one s (21 * a + b) = pif (csTc L O R Th m a x ∧ (s (21 * a + b) = one ∨ s (21 * a + b) = 2)) 3 (s (21 * a + b)) := by
  have e1 : (21 * a + b) / 21 = a := by unfold csH at hb; omega
  unfold csFg
  rw [e1]
  refine pif_c ⟨fun w => w.2, fun w => ⟨?_, w⟩⟩
  unfold csH at hb; omega
/-- one more axiom -/
theorem csSd_ax (hn : n ≤ 20) (h : csSd n L O R Th m s) (hm : 0 ≤ m) (hA : csAx n L' O' R' (m + 1)) (e : ∀ k, 0 ≤ k → k < m → L' k = L k ∧ O' k = O k ∧ R' k = R k ∧ Th' k = Th k) : csSd n L' O' R' Th' (m + 1) (csFg n L' O' R' Th' (m + 1) m 0 s) := fun a b a0 a1 hb => by
  have S := h a b a0 a1 hb
  have mono : csD L O R Th m a b → csD L' O' R' Th' (m + 1) a b := csD_m (by omega) (fun k k0 k1 => ⟨(e k k0 k1).1, (e k k0 k1).2.1, (e k k0 k1).2.2.1, fun w => by rw [(e k k0 k1).2.2.2]; exact w⟩)
  rw [csFg_e hn ⟨a0, a1⟩ hb]
  by_cases w : csTc L' O' R' Th' (m + 1) a m ∧ (s (21 * a + b) = 0 ∨ s (21 * a + b) = 2)
  · rw [pif_t w]; exact ⟨fun q => absurd q (by decide), fun q => absurd q (by decide)⟩
  · rw [pif_f w]
    refine ⟨fun q => mono (S.1 q), fun q d => S.2 q ?_⟩
    have ht : ¬ csTc L' O' R' Th' (m + 1) a m := fun t => w ⟨t, Or.inl q⟩
    have lo : ∀ c, csDr L' O' R' Th' (m + 1) (fun z => z = a) c → csDr L O R Th m (fun z => z = a) c := fun c => csDr_l (fun k k0 k1 ne t => by
      obtain ⟨e1, e2, e3, e4⟩ := e k k0 (by omega)
      exact ⟨by omega, e1.symm, e2.symm, e3.symm, by rw [← e4]; exact t⟩) (fun k k0 k1 => (hA k k0 k1).2.1.imp id (fun q => q.1)) ht
    exact d.imp (lo b) (lo 20)
/-- one axiom goes -/
theorem csSd_rm (hn : n ≤ 20) (h : csSd n L O R Th m s) (hx : 0 ≤ x ∧ x < m) (hA : csAx n L O R m) : csSd n L O R (updI Th x 0) m (csFg n L O R Th m x 1 s) := fun a b a0 a1 hb => by
  have S := h a b a0 a1 hb
  have mono : csD L O R (updI Th x 0) m a b → csD L O R Th m a b := csD_m (Int.le_refl _) (fun k k0 k1 => ⟨rfl, rfl, rfl, fun w => by
    by_cases q : k = x
    · rw [q, updI_s] at w; exact absurd rfl w
    · rw [updI_n q] at w; exact w⟩)
  rw [csFg_e hn ⟨a0, a1⟩ hb]
  by_cases w : csTc L O R Th m a x ∧ (s (21 * a + b) = 1 ∨ s (21 * a + b) = 2)
  · rw [pif_t w]; exact ⟨fun q => absurd q (by decide), fun q => absurd q (by decide)⟩
  · rw [pif_f w]
    refine ⟨fun q => ?_, fun q d => S.2 q (mono d)⟩
    have ht : ¬ csTc L O R Th m a x := fun t => w ⟨t, Or.inl q⟩
    have lo : ∀ c, csDr L O R Th m (fun z => z = a) c → csDr L O R (updI Th x 0) m (fun z => z = a) c := fun c => csDr_l (fun k k0 k1 ne t => ⟨k1, rfl, rfl, rfl, by rw [updI_n ne]; exact t⟩) (fun k k0 k1 => (hA k k0 k1).2.1.imp id (fun q => q.1)) ht
    exact (S.1 q).imp (lo b) (lo 20)
/-- one class alone is asked -/
theorem T52_alone {post : Int → (Int → Int) → (Int → Int) → (Int → Int) → Int → Prop} (hn : 0 ≤ n ∧ n ≤ 20) (hm : 0 ≤ m ∧ m ≤ 40) (hA : csAx n L O R m) (hg : 0 ≤ g ∧ g ≤ 20) (hp : ∀ r l', (csAn L O R Th m f g (csOne a)).1 = r → (csAn L O R Th m f g (csOne a)).2.2 = l' → ∀ fa' mk' fi', vtQ fi' 0 l' → csMk R mk' l' → (∀ k, k ∈ l' → 0 ≤ k ∧ k < m) → post r fa' mk' fi' l'.length) : wpX52_reasonAlone post m f L O R Th fa mk fi a g := by
  unfold wpX52_reasonAlone
  refine zl2 (fun d i fa => wX52_reasonAlone_2 _ a d i fa) (fun i fa => 0 ≤ i ∧ ∀ c, 0 ≤ c → c < i → fa c = csOne a c) 21 ?_ ⟨by decide, fun c p q => by omega⟩ (by decide)
  rintro d i fa ⟨i0, hi⟩ hN ih
  rw [wX52_reasonAlone_2]
  refine ⟨fun z => T52_reason hn hm hA hg (fun r fa' mk' fi' l' hr h1 h2 h3 => ?_), fun z => ⟨fun e => ⟨by omega, fun _ e1 => ⟨by omega, fun _ e2 => ?_⟩⟩, fun e => ⟨by omega, fun _ e1 => ⟨by omega, fun _ e2 => ?_⟩⟩⟩⟩
  · have cc := csRun_c (Th := Th) (f := f) hm.1 hn.2 hA hg 22 fa (csOne a) [] (fun c c0 c1 => hi c c0 (by omega))
    have hr : csRun L O R Th m f g 22 fa [] = (r, fa', l') := hr
    rw [hr] at cc
    exact hp r l' cc.1.symm cc.2.symm fa' mk' fi' h1 h2 h3
  · rw [e1, e2]
    refine ih _ (by omega) ⟨by omega, fun c p q => ?_⟩
    by_cases w : c = i
    · rw [w, updI_s]; unfold csOne; rw [if_pos e]
    · rw [updI_n w]; exact hi c p (by omega)
  · rw [e1, e2]
    refine ih _ (by omega) ⟨by omega, fun c p q => ?_⟩
    by_cases w : c = i
    · rw [w, updI_s]; unfold csOne; rw [if_neg e]
    · rw [updI_n w]; exact hi c p (by omega)
theorem csAn_s (hm : 0 ≤ m) (hn : n ≤ 20) (hA : csAx n L O R m) (hg : 0 ≤ g ∧ g ≤ 20) : ((csAn L O R Th m f g (csOne a)).1 = 1 → csD L O R Th m a g) ∧ ((csAn L O R Th m f g (csOne a)).1 = 0 → ¬ csD L O R Th m a g) ∧ ((csAn L O R Th m f g (csOne a)).1 = 0 ∨ (csAn L O R Th m f g (csOne a)).1 = 1 ∨ (csAn L O R Th m f g (csOne a)).1 = 2) := by
  have mb := cntI_b (fun c => csOne a c = 0) 21
  have mb' : csMF (csOne a) ≤ 21 := mb.2
  refine csRun_s (P0 := fun z => z = a) hm hA 22 (csOne a) [] _ _ _ (fun z e => ?_) (fun z _ _ h => ?_) hg (by omega) rfl hn
  · rw [e]; unfold csOne; rw [if_pos rfl]; decide
  · unfold csOne at h
    by_cases q : z = a
    · exact csDr_s q
    · rw [if_neg q] at h; exact absurd rfl h
/-- what a look makes of the state -/
noncomputable def csLk (n : Int) (L O R Th : Int → Int) (m f a b : Int) (s : Int → Int) : Int → Int := pif (s (21 * a + b) = 3) (csCl n L O R Th m (updI s (21 * a + b) (csAn L O R Th m f b (csOne a)).1)) s
theorem csSd_as (h : csSd n L O R Th m s) (hm : 0 ≤ m) (hn : n ≤ 20) (hA : csAx n L O R m) (ha : 0 ≤ a ∧ a < n) (hb : csH n b) : csSd n L O R Th m (updI s (21 * a + b) (csAn L O R Th m f b (csOne a)).1) := fun u v u0 u1 hv => by
  have A := csAn_s (Th := Th) (f := f) (a := a) hm hn hA (g := b) (by unfold csH at hb; omega)
  by_cases e : 21 * u + v = 21 * a + b
  · have : u = a ∧ v = b := by unfold csH at hv hb; omega
    rw [e, updI_s, this.1, this.2]; exact ⟨A.1, A.2.1⟩
  · rw [updI_n e]; exact h u v u0 u1 hv
theorem csSd_lk (h : csSd n L O R Th m s) (hm : 0 ≤ m) (hn : n ≤ 20) (hA : csAx n L O R m) (ha : 0 ≤ a ∧ a < n) (hb : csH n b) : csSd n L O R Th m (csLk n L O R Th m f a b s) := by
  unfold csLk
  by_cases w : s (21 * a + b) = 3
  · rw [pif_t w]; exact csSd_cl hn (csSd_as h hm hn hA ha hb)
  · rw [pif_f w]; exact h
theorem T52_look {post : Int → (Int → Int) → (Int → Int) → (Int → Int) → (Int → Int) → Int → Int → Prop} {fc q : Int} (hn : 0 ≤ n ∧ n ≤ 20) (hm : 0 ≤ m ∧ m ≤ 40) (hA : csAx n L O R m) (hS : csSd n L O R Th m s) (ha : 0 ≤ a ∧ a < n) (hb : csH n b) (hq : 0 ≤ q ∧ q ≤ 1000000) (hp : ∀ fa' mk' fi' fc', post (if csLk n L O R Th m f a b s (21 * a + b) = 1 then 1 else 0) (csLk n L O R Th m f a b s) fa' mk' fi' fc' (if s (21 * a + b) = 3 then q + 1 else q)) : wpX52_look post n m f L O R Th s fa mk fi fc q a b := by
  have ib : 0 ≤ 21 * a + b ∧ 21 * a + b < 420 := by unfold csH at hb; omega
  have fin : ∀ (s' : Int → Int) (q' : Int), s' = csLk n L O R Th m f a b s → q' = (if s (21 * a + b) = 3 then q + 1 else q) → ∀ fa' mk' fi' fc', wX52_look_46 post a b s' fa' mk' fi' fc' q' := fun s' q' es eq fa' mk' fi' fc' => by
    have H := hp fa' mk' fi' fc'
    rw [← es, ← eq] at H
    unfold wX52_look_46
    exact ⟨ib, fun e => by rw [if_pos e] at H; exact H, fun e => by rw [if_neg e] at H; exact H⟩
  unfold wpX52_look
  refine ⟨ib, fun e => ⟨by omega, fun _ e1 => T52_alone hn hm hA (by unfold csH at hb; omega) (fun r l' h1 h2 fa' mk' fi' _ _ _ s2 e2 => ?_)⟩, fun e => fin s q (by unfold csLk; exact (pif_f e).symm) (by rw [if_neg e]) _ _ _ _⟩
  rw [e2, ← h1, e1]
  refine T52_close hn hm (csSd_ok (csSd_as hS hm.1 hn.2 hA ha hb)) (fin _ _ ?_ ?_ _ _ _ _)
  · unfold csLk; exact (pif_t e).symm
  · rw [if_pos e]
end

/-! ClassifySort, the reference (X52): sorting -/
def csU (s : Int → Int) (c d : Int) : Prop := csB s c d ∧ ¬ csB s d c
def csDi (n : Int) (s pl : Int → Int) (c d : Int) : Prop := ¬ pl d = 0 ∧ csU s c d ∧ ∀ e, 0 ≤ e → e < n → ¬ (¬ pl e = 0 ∧ csU s c e ∧ csU s e d)
/-- one may be looked at -/
def csMy (n : Int) (s pl : Int → Int) (x down e : Int) : Prop := ∀ d, 0 ≤ d → d < n → (¬ down = 0 → csDi n s pl e d → csB s x d) ∧ (down = 0 → ¬ pl d = 0 → (csB s x d → csB s e d) ∧ (csDi n s pl d e → csB s d x))
def csNp (n : Int) (s pl lk : Int → Int) (x down e : Int) : Prop := ¬ pl e = 0 ∧ lk e = 0 ∧ csMy n s pl x down e
noncomputable def csNf (n : Int) (s pl lk : Int → Int) (x down : Int) : Int := if fstI (csNp n s pl lk x down) n.toNat = n then -1 else fstI (csNp n s pl lk x down) n.toNat
section
variable {n m f g a b c x d e : Int} {L O R Th fa s mk fi pl lk : Int → Int}
theorem T52_under {post : Int → Prop} (hc : 0 ≤ c ∧ c ≤ 20) (hd : 0 ≤ d ∧ d ≤ 20) (h1 : csU s c d → post 1) (h0 : ¬ csU s c d → post 0) : wpX52_isUnder post s c d := by
  unfold wpX52_isUnder
  exact T52_belowB hc hd (fun w => T52_belowB hd hc (fun w2 => h0 (fun q => q.2 w2)) (fun w2 => h1 ⟨w, w2⟩)) (fun w => h0 (fun q => w q.1))
theorem T52_direct {post : Int → Prop} (hn : 0 ≤ n ∧ n ≤ 20) (hc : 0 ≤ c ∧ c < 20) (hd : 0 ≤ d ∧ d < 20) (h1 : csDi n s pl c d → post 1) (h0 : ¬ csDi n s pl c d → post 0) : wpX52_isDirect post n s pl c d := by
  have key : ∀ x : Int, (x = 0 ∨ x = 1) → (x = 1 ↔ (¬ pl d = 0 ∧ csU s c d)) → ∃ fu, wX52_isDirect_27 (fun (x3_23 : Int) => (x3_23 = 0 ∨ x3_23 = 1) ∧ (post x3_23)) c d n s pl fu x 0 := fun x hx hxx => by
    refine wl2 (fun f x i => wX52_isDirect_27 (fun (x3_23 : Int) => (x3_23 = 0 ∨ x3_23 = 1) ∧ (post x3_23)) c d n s pl f x i) (fun x i => (0 ≤ i ∧ i ≤ n) ∧ (x = 0 ∨ x = 1) ∧ (x = 1 → (¬ pl d = 0 ∧ csU s c d) ∧ ∀ e, 0 ≤ e → e < i → ¬ (¬ pl e = 0 ∧ csU s c e ∧ csU s e d)) ∧ (x = 0 → ¬ csDi n s pl c d)) (fun x i => (n - i).toNat) ?_ x 0 ⟨by omega, hx, fun q => ⟨hxx.mp q, fun e p q => by omega⟩, fun q w => by have := hxx.mpr ⟨w.1, w.2.1⟩; omega⟩
    rintro x i ⟨hi, hx, h1', h0'⟩ f ih
    rw [wX52_isDirect_27]
    have no : x = 1 → ¬ (¬ pl i = 0 ∧ csU s c i ∧ csU s i d) → i < n → ∀ y, y = i + 1 → wX52_isDirect_27 (fun (x3_23 : Int) => (x3_23 = 0 ∨ x3_23 = 1) ∧ (post x3_23)) c d n s pl f 1 y := fun x1 hh lt y ey => by
      rw [ey]
      refine ih _ _ ⟨by omega, Or.inr rfl, fun _ => ⟨(h1' x1).1, fun e p q => ?_⟩, fun q => absurd q (by decide)⟩ (by omega)
      by_cases w : e = i
      · rw [w]; exact hh
      · exact (h1' x1).2 e p (by omega)
    refine ⟨fun z => ⟨hx, ?_⟩, fun z => ⟨fun x0 => ⟨by omega, fun _ ey => ?_⟩, fun x0 => ⟨by omega, fun e => ⟨by omega, no (by omega) (fun w => w.1 e) (by omega)⟩, fun e => T52_under ⟨hc.1, by omega⟩ ⟨hi.1, by omega⟩ (fun u1 => ⟨fun q => absurd q (by decide), fun _ => T52_under ⟨hi.1, by omega⟩ ⟨hd.1, by omega⟩ (fun u2 => ⟨fun q => absurd q (by decide), fun _ => ⟨by omega, fun _ ey => ?_⟩⟩) (fun u2 => ⟨fun _ => ⟨by omega, no (by omega) (fun w => u2 w.2.2) (by omega)⟩, fun q => absurd rfl q⟩)⟩) (fun u1 => ⟨fun _ => ⟨by omega, no (by omega) (fun w => u1 w.2.1) (by omega)⟩, fun q => absurd rfl q⟩)⟩⟩⟩
    · rcases hx with q | q
      · rw [q]; exact h0 (h0' q)
      · rw [q]; exact h1 ⟨(h1' q).1.1, (h1' q).1.2, fun e p r => (h1' q).2 e p (by omega)⟩
    · rw [ey]
      exact ih _ _ ⟨by omega, Or.inl rfl, fun q => absurd q (by decide), fun _ => h0' x0⟩ (by omega)
    · rw [ey]
      exact ih _ _ ⟨by omega, Or.inl rfl, fun q => absurd q (by decide), fun _ w => w.2.2 i hi.1 (by omega) ⟨e, u1, u2⟩⟩ (by omega)
  unfold wpX52_isDirect
  refine ⟨hd, fun w => key 0 (Or.inl rfl) ⟨fun q => absurd q (by decide), fun q => absurd w q.1⟩, fun w => T52_under ⟨hc.1, by omega⟩ ⟨hd.1, by omega⟩ (fun u => ⟨fun q => absurd q (by decide), fun _ => key 1 (Or.inr rfl) ⟨fun _ => ⟨w, u⟩, fun _ => rfl⟩⟩) (fun u => ⟨fun _ => key 0 (Or.inl rfl) ⟨fun q => absurd q (by decide), fun q => absurd q.2 u⟩, fun q => absurd rfl q⟩)⟩
/-- the loop over what is beside one -/
theorem T52_n45 {P Q : Prop} {y : Int} (hn : 0 ≤ n ∧ n ≤ 20) (hx : 0 ≤ x ∧ x < n) (he : 0 ≤ e ∧ e < n) (hy : y = 0 ∨ y = 1) (h0 : y = 0 → P) (h1 : y = 1 → csMy n s pl x b e → Q) (h2 : y = 1 → ¬ csMy n s pl x b e → P) : ∃ fu, wX52_nextFor_45 (fun z => (z = 0 → P) ∧ (¬ z = 0 → Q)) x b e n s pl fu y 0 := by
  refine wl2 (fun f y i => wX52_nextFor_45 (fun z => (z = 0 → P) ∧ (¬ z = 0 → Q)) x b e n s pl f y i) (fun y' i => (0 ≤ i ∧ i ≤ n) ∧ (y' = 0 ∨ y' = 1) ∧ (y' = 0 → P) ∧ (y' = 1 → y = 1 ∧ ∀ d, 0 ≤ d → d < i → (¬ b = 0 → csDi n s pl e d → csB s x d) ∧ (b = 0 → ¬ pl d = 0 → (csB s x d → csB s e d) ∧ (csDi n s pl d e → csB s d x)))) (fun y i => (n - i).toNat) ?_ y 0 ⟨by omega, hy, h0, fun q => ⟨q, fun d p q => by omega⟩⟩
  rintro y' i ⟨hi, hy', hP, hQ⟩ f ih
  rw [wX52_nextFor_45]
  refine ⟨fun z => ?_, fun z => ⟨fun y0 => ⟨fun _ => hP y0, fun q => absurd y0 q⟩, fun y0 => ?_⟩⟩
  · rcases hy' with q | q
    · exact ⟨fun _ => hP q, fun w => absurd q w⟩
    · exact ⟨fun w => by omega, fun _ => h1 (hQ q).1 (fun d p r => (hQ q).2 d p (by omega))⟩
  have y1 : y' = 1 := by omega
  obtain ⟨yy, hQ⟩ := hQ y1
  have ib : 0 ≤ i ∧ i < n := by omega
  have ok : ((¬ b = 0 → csDi n s pl e i → csB s x i) ∧ (b = 0 → ¬ pl i = 0 → (csB s x i → csB s e i) ∧ (csDi n s pl i e → csB s i x))) → ∀ k, k = i + 1 → wX52_nextFor_45 (fun z => (z = 0 → P) ∧ (¬ z = 0 → Q)) x b e n s pl f 1 k := fun hh k ek => by
    rw [ek]
    refine ih _ _ ⟨by omega, Or.inr rfl, fun q => absurd q (by decide), fun _ => ⟨yy, fun d p r => ?_⟩⟩ (by omega)
    by_cases q : d = i
    · rw [q]; exact hh
    · exact hQ d p (by omega)
  have bad : ¬ ((¬ b = 0 → csDi n s pl e i → csB s x i) ∧ (b = 0 → ¬ pl i = 0 → (csB s x i → csB s e i) ∧ (csDi n s pl i e → csB s i x))) → ∀ k, k = i + 1 → wX52_nextFor_45 (fun z => (z = 0 → P) ∧ (¬ z = 0 → Q)) x b e n s pl f 0 k := fun hh k ek => by
    rw [ek]
    exact ih _ _ ⟨by omega, Or.inl rfl, fun _ => h2 yy (fun M => hh (M i ib.1 ib.2)), fun q => absurd q (by decide)⟩ (by omega)
  refine ⟨fun b0 => ⟨by omega, ?_⟩, fun b0 => ?_⟩
  · have s125 : (¬ pl i = 0 → csB s x i → csB s e i) → wX52_nextFor_125 (wX52_nextFor_45 (fun z => (z = 0 → P) ∧ (¬ z = 0 → Q)) x b e n s pl f) x e i n s pl := fun hh => by
      unfold wX52_nextFor_125
      refine ⟨by omega, fun p => ⟨by omega, ok ⟨fun q => absurd b0 q, fun _ q => absurd p q⟩⟩, fun p => T52_direct hn ⟨ib.1, by omega⟩ ⟨he.1, by omega⟩ (fun D => ⟨fun q => absurd q (by decide), fun _ => T52_belowB ⟨ib.1, by omega⟩ ⟨hx.1, by omega⟩ (fun B => ⟨by omega, ok ⟨fun q => absurd b0 q, fun _ _ => ⟨hh p, fun _ => B⟩⟩⟩) (fun B => ⟨by omega, bad (fun w => B ((w.2 b0 p).2 D))⟩)⟩) (fun D => ⟨fun _ => ⟨by omega, ok ⟨fun q => absurd b0 q, fun _ _ => ⟨hh p, fun w => absurd w D⟩⟩⟩, fun q => absurd rfl q⟩)⟩
    exact ⟨fun p => s125 (fun q => absurd p q), fun p => T52_belowB ⟨hx.1, by omega⟩ ⟨ib.1, by omega⟩ (fun B => T52_belowB ⟨he.1, by omega⟩ ⟨ib.1, by omega⟩ (fun B2 => s125 (fun _ _ => B2)) (fun B2 => ⟨by omega, bad (fun w => B2 ((w.2 b0 p).1 B))⟩)) (fun B => s125 (fun _ w => absurd w B))⟩
  · exact T52_direct hn ⟨he.1, by omega⟩ ⟨ib.1, by omega⟩ (fun D => ⟨fun q => absurd q (by decide), fun _ => T52_belowB ⟨hx.1, by omega⟩ ⟨ib.1, by omega⟩ (fun B => ⟨by omega, ok ⟨fun _ _ => B, fun q => absurd q b0⟩⟩) (fun B => ⟨by omega, bad (fun w => B (w.1 b0 D))⟩)⟩) (fun D => ⟨fun _ => ⟨by omega, ok ⟨fun _ w => absurd w D, fun q => absurd q b0⟩⟩, fun q => absurd rfl q⟩)
theorem T52_next {post : Int → Prop} (hn : 0 ≤ n ∧ n ≤ 20) (hx : 0 ≤ x ∧ x < n) (hp : post (csNf n s pl lk x b)) : wpX52_nextFor post n s pl lk x b := by
  have S := fstI_s (csNp n s pl lk x b) n.toNat
  rw [show ((n.toNat : Nat) : Int) = n by omega] at S
  unfold wpX52_nextFor
  refine ⟨by omega, fun _ e0 => ?_⟩
  rw [e0]
  refine wl2 (fun f y i => wX52_nextFor_10 _ x b n s pl lk f y i) (fun y i => (-1 ≤ i ∧ i < n) ∧ ((y = -1 ∧ ∀ k, i < k → k < n → ¬ csNp n s pl lk x b k) ∨ ((i < y ∧ y < n) ∧ csNp n s pl lk x b y ∧ ∀ k, i < k → k < y → ¬ csNp n s pl lk x b k))) (fun y i => (i + 1).toNat) ?_ (-1) (n - 1) ⟨by omega, Or.inl ⟨rfl, fun k p q => by omega⟩⟩
  rintro y i ⟨hi, hy⟩ f ih
  rw [wX52_nextFor_10]
  have no : ¬ csNp n s pl lk x b i → 0 ≤ i → (zR (i + (-1)) ∧ ∀ k : Int, k = i + (-1) → wX52_nextFor_10 _ x b n s pl lk f y k) := fun h i0 => ⟨by omega, fun _ e => by
    rw [e]
    refine ih _ _ ⟨by omega, ?_⟩ (by omega)
    rcases hy with ⟨e1, hy⟩ | ⟨w, hf, hy⟩
    · refine Or.inl ⟨e1, fun k p q => ?_⟩
      by_cases r : k = i
      · rw [r]; exact h
      · exact hy k (by omega) q
    · refine Or.inr ⟨by omega, hf, fun k p q => ?_⟩
      by_cases r : k = i
      · rw [r]; exact h
      · exact hy k (by omega) q⟩
  have yes : csNp n s pl lk x b i → 0 ≤ i → (zR (i + (-1)) ∧ ∀ k : Int, k = i + (-1) → wX52_nextFor_10 _ x b n s pl lk f i k) := fun h i0 => ⟨by omega, fun _ e => by
    rw [e]
    exact ih _ _ ⟨by omega, Or.inr ⟨by omega, h, fun k p q => by omega⟩⟩ (by omega)⟩
  refine ⟨fun z => ?_, fun z => ?_⟩
  · have ei : i = -1 := by omega
    subst ei
    unfold csNf at hp
    rcases hy with ⟨e1, hy⟩ | ⟨w, hf, hy⟩
    · have : fstI (csNp n s pl lk x b) n.toNat = n := by
        by_cases q : fstI (csNp n s pl lk x b) n.toNat < n
        · exact absurd (S.2.1 q) (hy _ (by omega) q)
        · omega
      rw [if_pos this] at hp
      rw [e1]; exact hp
    · have : fstI (csNp n s pl lk x b) n.toNat = y := fstI_u (by omega) (by omega) (fun _ => hf) (fun j p q => hy j (by omega) q)
      rw [if_neg (by omega), this] at hp
      exact hp
  have ib : 0 ≤ i ∧ i < n := by omega
  refine ⟨by omega, fun p => T52_n45 hn hx ib (Or.inl rfl) (fun _ => no (fun w => w.1 p) ib.1) (fun q => absurd q (by decide)) (fun q => absurd q (by decide)), fun p => ⟨fun q => T52_n45 hn hx ib (Or.inr rfl) (fun q => absurd q (by decide)) (fun _ M => yes ⟨p, q, M⟩ ib.1) (fun _ M => no (fun w => M w.2.2) ib.1), fun q => T52_n45 hn hx ib (Or.inl rfl) (fun _ => no (fun w => q w.2.1) ib.1) (fun q => absurd q (by decide)) (fun q => absurd q (by decide))⟩⟩
end

/-! ClassifySort, the reference (X52): run -/
section
variable {n m f g a b c x d e : Int} {L O R Th fa s mk fi pl pl2 lk lk2 : Int → Int}
theorem csDi_c (hd : 0 ≤ d ∧ d < n) (h : ∀ e, 0 ≤ e → e < n → pl e = pl2 e) : csDi n s pl c d ↔ csDi n s pl2 c d := by
  unfold csDi
  rw [h d hd.1 hd.2]
  exact ⟨fun w => ⟨w.1, w.2.1, fun e p q z => w.2.2 e p q ⟨by rw [h e p q]; exact z.1, z.2⟩⟩, fun w => ⟨w.1, w.2.1, fun e p q z => w.2.2 e p q ⟨by rw [← h e p q]; exact z.1, z.2⟩⟩⟩
theorem csNf_c (hn : 0 ≤ n) (hp : ∀ e, 0 ≤ e → e < n → pl e = pl2 e) (hl : ∀ e, 0 ≤ e → e < n → lk e = lk2 e) : csNf n s pl lk x b = csNf n s pl2 lk2 x b := by
  have eq : ∀ k, 0 ≤ k → k < n → (csNp n s pl lk x b k ↔ csNp n s pl2 lk2 x b k) := fun k k0 k1 => by
    unfold csNp csMy
    rw [hp k k0 k1, hl k k0 k1]
    refine and_congr Iff.rfl (and_congr Iff.rfl ⟨fun w d d0 d1 => ⟨fun q z => (w d d0 d1).1 q ((csDi_c ⟨d0, d1⟩ hp).mpr z), fun q z => ?_⟩, fun w d d0 d1 => ⟨fun q z => (w d d0 d1).1 q ((csDi_c ⟨d0, d1⟩ hp).mp z), fun q z => ?_⟩⟩)
    · have := (w d d0 d1).2 q (by rw [hp d d0 d1]; exact z)
      exact ⟨this.1, fun y => this.2 ((csDi_c ⟨k0, k1⟩ hp).mpr y)⟩
    · have := (w d d0 d1).2 q (by rw [← hp d d0 d1]; exact z)
      exact ⟨this.1, fun y => this.2 ((csDi_c ⟨k0, k1⟩ hp).mp y)⟩
  have S := fstI_s (csNp n s pl2 lk2 x b) n.toNat
  rw [show ((n.toNat : Nat) : Int) = n by omega] at S
  have : fstI (csNp n s pl lk x b) n.toNat = fstI (csNp n s pl2 lk2 x b) n.toNat := fstI_u (by omega) (by omega) (fun q => (eq _ S.1.1 (by omega)).mpr (S.2.1 (by omega))) (fun j p q w => S.2.2 j p q ((eq j p (by omega)).mp w))
  unfold csNf
  rw [this]
theorem csNf_s (hn : 0 ≤ n) (h : ¬ csNf n s pl lk x b = -1) : (0 ≤ csNf n s pl lk x b ∧ csNf n s pl lk x b < n) ∧ csNp n s pl lk x b (csNf n s pl lk x b) := by
  have S := fstI_s (csNp n s pl lk x b) n.toNat
  rw [show ((n.toNat : Nat) : Int) = n by omega] at S
  unfold csNf at h ⊢
  by_cases q : fstI (csNp n s pl lk x b) n.toNat = n
  · rw [if_pos q] at h; exact absurd rfl h
  · rw [if_neg q]; exact ⟨by omega, S.2.1 (by omega)⟩
/-- who is asked for whom -/
def csPa (x b e : Int) : Int × Int := if b = 0 then (e, x) else (x, e)
/-- one way, down or up -/
noncomputable def csGo (n : Int) (L O R Th : Int → Int) (m f : Int) (pl : Int → Int) (x b : Int) : Nat → (Int → Int) → (Int → Int) → Int → (Int → Int) × Int
  | 0, s, _, q => (s, q)
  | d + 1, s, lk, q => if csNf n s pl lk x b = -1 then (s, q) else csGo n L O R Th m f pl x b d (csLk n L O R Th m f (csPa x b (csNf n s pl lk x b)).1 (csPa x b (csNf n s pl lk x b)).2 s) (updI lk (csNf n s pl lk x b) 1) (if s (21 * (csPa x b (csNf n s pl lk x b)).1 + (csPa x b (csNf n s pl lk x b)).2) = 3 then q + 1 else q)
theorem csGo_c (hn : 0 ≤ n) (hp : ∀ e, 0 ≤ e → e < n → pl e = pl2 e) : ∀ (k : Nat) (s lk lk2 : Int → Int) (q : Int), (∀ e, 0 ≤ e → e < n → lk e = lk2 e) → csGo n L O R Th m f pl x b k s lk q = csGo n L O R Th m f pl2 x b k s lk2 q
  | 0, _, _, _, _, _ => rfl
  | k + 1, s, lk, lk2, q, hl => by
    unfold csGo
    rw [csNf_c (s := s) (x := x) (b := b) hn hp hl]
    by_cases w : csNf n s pl2 lk2 x b = -1
    · rw [if_pos w, if_pos w]
    · rw [if_neg w, if_neg w]
      exact csGo_c hn hp k _ _ _ _ (fun e p r => by
        by_cases z : e = csNf n s pl2 lk2 x b
        · rw [z, updI_s, updI_s]
        · rw [updI_n z, updI_n z]; exact hl e p r)
theorem csPa_b {b : Int} (hx : 0 ≤ x ∧ x < n) (he : 0 ≤ e ∧ e < n) : (0 ≤ (csPa x b e).1 ∧ (csPa x b e).1 < n) ∧ csH n (csPa x b e).2 := by
  unfold csPa
  by_cases q : b = 0
  · rw [if_pos q]; exact ⟨he, Or.inl hx⟩
  · rw [if_neg q]; exact ⟨hx, Or.inl he⟩
theorem csGo_sd (hm : 0 ≤ m) (hn : 0 ≤ n ∧ n ≤ 20) (hA : csAx n L O R m) (hx : 0 ≤ x ∧ x < n) : ∀ (k : Nat) (s lk : Int → Int) (q : Int), csSd n L O R Th m s → csSd n L O R Th m (csGo n L O R Th m f pl x b k s lk q).1 ∧ q ≤ (csGo n L O R Th m f pl x b k s lk q).2 ∧ (csGo n L O R Th m f pl x b k s lk q).2 ≤ q + k
  | 0, _, _, _, h => ⟨h, Int.le_refl _, Int.le_add_of_nonneg_right (by decide)⟩
  | k + 1, s, lk, q, h => by
    unfold csGo
    by_cases w : csNf n s pl lk x b = -1
    · rw [if_pos w]; exact ⟨h, Int.le_refl _, by show q ≤ q + _; omega⟩
    · rw [if_neg w]
      have N := csNf_s hn.1 w
      have B := csPa_b (b := b) hx N.1
      have r := csGo_sd hm hn hA hx k _ (updI lk (csNf n s pl lk x b) 1) (if s (21 * (csPa x b (csNf n s pl lk x b)).1 + (csPa x b (csNf n s pl lk x b)).2) = 3 then q + 1 else q) (csSd_lk (f := f) h hm hn.2 hA B.1 B.2)
      refine ⟨r.1, ?_, ?_⟩
      · have := r.2.1
        by_cases z : s (21 * (csPa x b (csNf n s pl lk x b)).1 + (csPa x b (csNf n s pl lk x b)).2) = 3
        · rw [if_pos z] at this ⊢; omega
        · rw [if_neg z] at this ⊢; omega
      · have := r.2.2
        by_cases z : s (21 * (csPa x b (csNf n s pl lk x b)).1 + (csPa x b (csNf n s pl lk x b)).2) = 3
        · rw [if_pos z] at this ⊢; omega
        · rw [if_neg z] at this ⊢; omega
theorem T52_g28 {K : (Int → Int) → (Int → Int) → (Int → Int) → (Int → Int) → (Int → Int) → Int → Int → Prop} (hn : 0 ≤ n ∧ n ≤ 20) (hm : 0 ≤ m ∧ m ≤ 40) (hA : csAx n L O R m) (hx : 0 ≤ x ∧ x < n) : ∀ (k : Nat) (s lk fa mk fi : Int → Int) (fc q : Int), cntI (fun e => lk e = 0) n.toNat < k → csSd n L O R Th m s → (0 ≤ q ∧ q + k ≤ 900000) → (∀ lk' fa' mk' fi' fc', K (csGo n L O R Th m f pl x b k s lk q).1 lk' fa' mk' fi' fc' (csGo n L O R Th m f pl x b k s lk q).2) → wX52_go_28 K x b n m f L O R Th pl k (csNf n s pl lk x b) s lk fa mk fi fc q
  | 0, _, lk, _, _, _, _, _, h, _, _, _ => by
    have := cntI_b (fun e => lk e = 0) n.toNat
    omega
  | k + 1, s, lk, fa, mk0, fi, fc, q, h, hS, hq, hp => by
    rw [wX52_go_28]
    unfold csGo at hp
    refine ⟨fun z => ?_, fun z => ?_⟩
    · have e : csNf n s pl lk x b = -1 := by
        by_cases w : csNf n s pl lk x b = -1
        · exact w
        · have := (csNf_s hn.1 w).1; omega
      rw [if_pos e] at hp
      exact hp lk fa mk0 fi fc
    · have ne : ¬ csNf n s pl lk x b = -1 := by omega
      rw [if_neg ne] at hp
      obtain ⟨N1, N2, N3, -⟩ := csNf_s hn.1 ne
      obtain ⟨e, ee⟩ : ∃ e, e = csNf n s pl lk x b := ⟨_, rfl⟩
      rw [← ee] at hp N1 N2 N3 ⊢
      have dn := cntI_u (p := fun y => updI lk e 1 y = 0) (q := fun y => lk y = 0) (x0 := e) N1.1 (by show ¬ updI lk e 1 e = 0; rw [updI_s]; decide) N3 (fun y hy => by show updI lk e 1 y = 0 ↔ lk y = 0; rw [updI_n hy]) n.toNat
      rw [if_pos (by omega)] at dn
      have B := csPa_b (b := b) hx N1
      have S2 := csSd_lk (f := f) hS hm.1 hn.2 hA B.1 B.2
      have qb : (0 : Int) ≤ (if s (21 * (csPa x b e).1 + (csPa x b e).2) = 3 then q + 1 else q) ∧ (if s (21 * (csPa x b e).1 + (csPa x b e).2) = 3 then q + 1 else q) + (k : Int) ≤ 900000 := by split <;> omega
      have go : ∀ fa' mk' fi' fc', wpX52_nextFor (fun r => wX52_go_28 K x b n m f L O R Th pl k r (csLk n L O R Th m f (csPa x b e).1 (csPa x b e).2 s) (updI lk e 1) fa' mk' fi' fc' (if s (21 * (csPa x b e).1 + (csPa x b e).2) = 3 then q + 1 else q)) n (csLk n L O R Th m f (csPa x b e).1 (csPa x b e).2 s) pl (updI lk e 1) x b := fun fa' mk' fi' fc' => T52_next hn hx (T52_g28 hn hm hA hx k _ _ fa' mk' fi' fc' _ (by omega) S2 qb hp)
      refine ⟨by omega, fun lk2 el => ⟨fun b0 => ?_, fun b0 => ?_⟩⟩
      · rw [el]
        have pe : csPa x b e = (e, x) := by unfold csPa; exact if_pos b0
        rw [pe] at go
        exact T52_look hn hm hA hS N1 (Or.inl hx) ⟨hq.1, by omega⟩ (fun fa' mk' fi' fc' => go fa' mk' fi' fc')
      · rw [el]
        have pe : csPa x b e = (x, e) := by unfold csPa; exact if_neg b0
        rw [pe] at go
        exact T52_look hn hm hA hS hx (Or.inl N1) ⟨hq.1, by omega⟩ (fun fa' mk' fi' fc' => go fa' mk' fi' fc')
theorem T52_go {post : (Int → Int) → (Int → Int) → (Int → Int) → (Int → Int) → (Int → Int) → Int → Int → Prop} {fc q : Int} (hn : 0 ≤ n ∧ n ≤ 20) (hm : 0 ≤ m ∧ m ≤ 40) (hA : csAx n L O R m) (hx : 0 ≤ x ∧ x < n) (hS : csSd n L O R Th m s) (hq : 0 ≤ q ∧ q ≤ 800000) (hpl : ∀ e, 0 ≤ e → e < n → pl e = pl2 e) (hp : ∀ lk' fa' mk' fi' fc', post (csGo n L O R Th m f pl2 x b 21 s (fun _ => 0) q).1 lk' fa' mk' fi' fc' (csGo n L O R Th m f pl2 x b 21 s (fun _ => 0) q).2) : wpX52_go post n m f L O R Th s pl lk fa mk fi fc q x b := by
  unfold wpX52_go
  refine zl2 (fun d i lk => wX52_go_2 _ d i lk) (fun i lk => 0 ≤ i ∧ ∀ c, 0 ≤ c → c < i → lk c = 0) 20 ?_ ⟨by decide, fun c p q => by omega⟩ (by decide)
  rintro d i lk ⟨i0, hi⟩ hN ih
  rw [wX52_go_2]
  refine ⟨fun z => T52_next hn hx ⟨21, ?_⟩, fun z => ⟨by omega, fun _ e1 => ⟨by omega, fun _ e2 => ?_⟩⟩⟩
  · have cb := cntI_b (fun e => lk e = 0) n.toNat
    refine T52_g28 hn hm hA hx 21 s lk fa mk fi fc q (by omega) hS ⟨hq.1, by omega⟩ (fun lk' fa' mk' fi' fc' => ?_)
    rw [csGo_c hn.1 hpl 21 s lk (fun _ => 0) q (fun e p r => hi e p (by omega))]
    exact hp lk' fa' mk' fi' fc'
  · rw [e1, e2]
    refine ih _ (by omega) ⟨by omega, fun c p q => ?_⟩
    by_cases w : c = i
    · rw [w, updI_s]
    · rw [updI_n w]; exact hi c p (by omega)
end

/-! ClassifySort, the reference (X52): run; what comes and goes -/
noncomputable def csQ1 (s : Int → Int) (a b q : Int) : Int := if s (21 * a + b) = 3 then q + 1 else q
/-- one class is placed (or is empty) -/
noncomputable def csRs (n : Int) (L O R Th : Int → Int) (m f i : Int) (s pl : Int → Int) (q : Int) : (Int → Int) × (Int → Int) × Int :=
  pif (csLk n L O R Th m f i 20 s (21 * i + 20) = 1) (csLk n L O R Th m f i 20 s, pl, csQ1 s i 20 q)
    ((csGo n L O R Th m f pl i 0 21 (csGo n L O R Th m f pl i 1 21 (csLk n L O R Th m f i 20 s) (fun _ => 0) (csQ1 s i 20 q)).1 (fun _ => 0) (csGo n L O R Th m f pl i 1 21 (csLk n L O R Th m f i 20 s) (fun _ => 0) (csQ1 s i 20 q)).2).1, updI pl i 1, (csGo n L O R Th m f pl i 0 21 (csGo n L O R Th m f pl i 1 21 (csLk n L O R Th m f i 20 s) (fun _ => 0) (csQ1 s i 20 q)).1 (fun _ => 0) (csGo n L O R Th m f pl i 1 21 (csLk n L O R Th m f i 20 s) (fun _ => 0) (csQ1 s i 20 q)).2).2)
/-- all classes below i -/
noncomputable def csRu (n : Int) (L O R Th : Int → Int) (m f : Int) (s : Int → Int) : Nat → (Int → Int) × (Int → Int) × Int
  | 0 => (s, fun _ => 0, 0)
  | i + 1 => csRs n L O R Th m f i (csRu n L O R Th m f s i).1 (csRu n L O R Th m f s i).2.1 (csRu n L O R Th m f s i).2.2
section
variable {n m f g a b c x d e : Int} {L O R Th fa s mk fi pl lk : Int → Int}
theorem csQ1_b {q : Int} : q ≤ csQ1 s a b q ∧ csQ1 s a b q ≤ q + 1 := by
  unfold csQ1; split <;> omega
theorem csRs_s {i q : Int} (hm : 0 ≤ m) (hn : 0 ≤ n ∧ n ≤ 20) (hA : csAx n L O R m) (hi : 0 ≤ i ∧ i < n) (h : csSd n L O R Th m s) : csSd n L O R Th m (csRs n L O R Th m f i s pl q).1 ∧ q ≤ (csRs n L O R Th m f i s pl q).2.2 ∧ (csRs n L O R Th m f i s pl q).2.2 ≤ q + 43 := by
  have S1 := csSd_lk (f := f) h hm hn.2 hA hi (Or.inr rfl : csH n 20)
  have qb := csQ1_b (s := s) (a := i) (b := 20) (q := q)
  have G1 := csGo_sd (f := f) (pl := pl) (b := 1) hm hn hA hi 21 _ (fun _ => 0) (csQ1 s i 20 q) S1
  have G2 := csGo_sd (f := f) (pl := pl) (b := 0) hm hn hA hi 21 _ (fun _ => 0) (csGo n L O R Th m f pl i 1 21 (csLk n L O R Th m f i 20 s) (fun _ => 0) (csQ1 s i 20 q)).2 G1.1
  unfold csRs
  by_cases w : csLk n L O R Th m f i 20 s (21 * i + 20) = 1
  · rw [pif_t w]; exact ⟨S1, by show q ≤ csQ1 s i 20 q; omega, by show csQ1 s i 20 q ≤ q + 43; omega⟩
  · rw [pif_f w]
    refine ⟨G2.1, ?_, ?_⟩
    · exact Int.le_trans qb.1 (Int.le_trans G1.2.1 G2.2.1)
    · have a := G2.2.2
      have b := G1.2.2
      exact Int.le_trans a (by omega)
theorem csRu_s (hm : 0 ≤ m) (hn : 0 ≤ n ∧ n ≤ 20) (hA : csAx n L O R m) (h : csSd n L O R Th m s) : ∀ i : Nat, (i : Int) ≤ n → csSd n L O R Th m (csRu n L O R Th m f s i).1 ∧ 0 ≤ (csRu n L O R Th m f s i).2.2 ∧ (csRu n L O R Th m f s i).2.2 ≤ 43 * i
  | 0, _ => ⟨h, Int.le_refl _, by show (0 : Int) ≤ _; omega⟩
  | i + 1, hi => by
    obtain ⟨a, b, c⟩ := csRu_s hm hn hA h i (by omega)
    have r := csRs_s (f := f) (pl := (csRu n L O R Th m f s i).2.1) (q := (csRu n L O R Th m f s i).2.2) (i := (i : Int)) hm hn hA (by omega) a
    exact ⟨r.1, Int.le_trans b r.2.1, by have := r.2.2; show (csRs _ _ _ _ _ _ _ _ _ _ _).2.2 ≤ _; omega⟩
theorem T52_run {post : Int → Int → Int → (Int → Int) → (Int → Int) → (Int → Int) → (Int → Int) → (Int → Int) → (Int → Int) → Int → Int → Prop} {fc qs : Int} (hn : 0 ≤ n ∧ n ≤ 20) (hm : 0 ≤ m ∧ m ≤ 40) (hA : csAx n L O R m) (hS : csSd n L O R Th m s) (hq : 0 ≤ qs ∧ qs ≤ 1000000) (hp : ∀ pl' lk' fa' mk' fi' fc', (∀ e, 0 ≤ e → e < 20 → pl' e = (csRu n L O R Th m f s n.toNat).2.1 e) → post (csRu n L O R Th m f s n.toNat).2.2 (qs + (csRu n L O R Th m f s n.toNat).2.2) 1 (csRu n L O R Th m f s n.toNat).1 pl' lk' fa' mk' fi' fc' (csRu n L O R Th m f s n.toNat).2.2) : wpX52_run post n m f qs L O R Th s pl lk fa mk fi fc := by
  unfold wpX52_run
  refine zl2 (fun d i pl => wX52_run_7 _ d i pl) (fun i pl => 0 ≤ i ∧ ∀ c, 0 ≤ c → c < i → pl c = 0) 20 ?_ ⟨by decide, fun c p q => by omega⟩ (by decide)
  rintro d i pl ⟨i0, hi⟩ hN ih
  rw [wX52_run_7]
  refine ⟨fun z => ?_, fun z => ⟨by omega, fun _ e1 => ⟨by omega, fun _ e2 => ?_⟩⟩⟩
  · have key : ∀ (k : Nat) (i : Nat) (pl lk fa mk fi : Int → Int) (fc : Int), (i : Int) ≤ n → n.toNat - i < k → (∀ e, 0 ≤ e → e < 20 → pl e = (csRu n L O R Th m f s i).2.1 e) → wX52_run_28 (fun (f_state_36 : Int → Int) (f_placed_37 : Int → Int) (f_looked_38 : Int → Int) (f_fact_39 : Int → Int) (f_maker_40 : Int → Int) (f_fired_41 : Int → Int) (f_firedCount_42 : Int) (f_asked_43 : Int) => zR (qs + f_asked_43) ∧ (∀ f_questions_47 : Int, f_questions_47 = qs + f_asked_43 → (post f_asked_43 f_questions_47 1 f_state_36 f_placed_37 f_looked_38 f_fact_39 f_maker_40 f_fired_41 f_firedCount_42 f_asked_43))) n m f L O R Th k (i : Int) (csRu n L O R Th m f s i).1 pl lk fa mk fi fc (csRu n L O R Th m f s i).2.2 := by
      intro k
      induction k with
      | zero => intro i _ _ _ _ _ _ _ h; omega
      | succ k ih2 =>
        intro i pl lk fa mk fi fc hin hk hpl
        obtain ⟨S0, q0, q1⟩ := csRu_s (f := f) hm.1 hn hA hS i hin
        rw [wX52_run_28]
        refine ⟨fun z => ?_, fun z => ?_⟩
        · have ei : i = n.toNat := by omega
          subst ei
          refine ⟨by omega, fun _ e => ?_⟩
          rw [e]
          exact hp pl lk fa mk fi fc hpl
        · have ib : 0 ≤ (i : Int) ∧ (i : Int) < n := by omega
          have step : csRu n L O R Th m f s (i + 1) = csRs n L O R Th m f i (csRu n L O R Th m f s i).1 (csRu n L O R Th m f s i).2.1 (csRu n L O R Th m f s i).2.2 := rfl
          have nx := fun pl2 lk2 fa2 mk2 fi2 fc2 => ih2 (i + 1) pl2 lk2 fa2 mk2 fi2 fc2 (by omega) (by omega)
          rw [step, show ((i + 1 : Nat) : Int) = (i : Int) + 1 by omega] at nx
          have S1 := csSd_lk (f := f) S0 hm.1 hn.2 hA ib (Or.inr rfl : csH n 20)
          have qb := csQ1_b (s := (csRu n L O R Th m f s i).1) (a := i) (b := 20) (q := (csRu n L O R Th m f s i).2.2)
          refine T52_look hn hm hA S0 ib (Or.inr rfl) ⟨q0, by omega⟩ (fun fa' mk' fi' fc' => ?_)
          by_cases w : csLk n L O R Th m f i 20 (csRu n L O R Th m f s i).1 (21 * (i : Int) + 20) = 1
          · rw [if_pos w]
            refine ⟨fun q => absurd q (by decide), fun _ => ⟨by omega, fun _ e => ?_⟩⟩
            rw [e]
            unfold csRs at nx
            rw [pif_t w] at nx
            exact nx pl lk fa' mk' fi' fc' hpl
          · rw [if_neg w]
            unfold csRs at nx
            rw [pif_f w] at nx
            refine ⟨fun _ => ?_, fun q => absurd rfl q⟩
            have G1 := csGo_sd (f := f) (pl := (csRu n L O R Th m f s i).2.1) (b := 1) hm.1 hn hA ib 21 _ (fun _ => 0) (csQ1 (csRu n L O R Th m f s i).1 i 20 (csRu n L O R Th m f s i).2.2) S1
            refine T52_go (pl2 := (csRu n L O R Th m f s i).2.1) hn hm hA ib S1 ⟨by show 0 ≤ csQ1 _ _ _ _; omega, by show csQ1 _ _ _ _ ≤ 800000; omega⟩ (fun e p q => hpl e p (by omega)) (fun lk2 fa2 mk2 fi2 fc2 => ?_)
            refine T52_go (pl2 := (csRu n L O R Th m f s i).2.1) hn hm hA ib G1.1 ⟨?_, ?_⟩ (fun e p q => hpl e p (by omega)) (fun lk3 fa3 mk3 fi3 fc3 => ⟨by omega, fun _ e4 => ⟨by omega, fun _ e5 => ?_⟩⟩)
            · have := G1.2.1
              show 0 ≤ (csGo n L O R Th m f (csRu n L O R Th m f s i).2.1 i 1 21 (csLk n L O R Th m f i 20 (csRu n L O R Th m f s i).1) (fun _ => 0) (csQ1 (csRu n L O R Th m f s i).1 i 20 (csRu n L O R Th m f s i).2.2)).2
              omega
            · have := G1.2.2
              show (csGo n L O R Th m f (csRu n L O R Th m f s i).2.1 i 1 21 (csLk n L O R Th m f i 20 (csRu n L O R Th m f s i).1) (fun _ => 0) (csQ1 (csRu n L O R Th m f s i).1 i 20 (csRu n L O R Th m f s i).2.2)).2 ≤ 800000
              omega
            · rw [e4, e5]
              exact nx (updI pl i 1) lk3 fa3 mk3 fi3 fc3 (fun e p q => by
                show updI pl i 1 e = updI (csRu n L O R Th m f s i).2.1 i 1 e
                by_cases w : e = i
                · rw [w, updI_s, updI_s]
                · rw [updI_n w, updI_n w]; exact hpl e p q)
    exact ⟨_, key (n.toNat + 1) 0 pl lk fa mk fi fc (by omega) (by omega) (fun e p q => by rw [hi e p (by omega)]; rfl)⟩
  · rw [e1, e2]
    refine ih _ (by omega) ⟨by omega, fun c p q => ?_⟩
    by_cases w : c = i
    · rw [w, updI_s]
    · rw [updI_n w]; exact hi c p (by omega)
/-! what comes and goes -/
theorem T52_isClassB {P Q : Prop} (h1 : 0 ≤ c ∧ c < n → Q) (h0 : ¬ (0 ≤ c ∧ c < n) → P) : wpX52_isClass (fun r => (r = 0 → P) ∧ (¬ r = 0 → Q)) n c := by
  unfold wpX52_isClass
  exact ⟨fun e => ⟨fun _ => h0 (by omega), fun q => absurd rfl q⟩, fun e => ⟨fun e2 => ⟨fun _ => h0 (by omega), fun q => absurd rfl q⟩, fun e2 => ⟨fun q => absurd q (by decide), fun _ => h1 (by omega)⟩⟩⟩
/-- a goal as it is told -/
def csGl (b : Int) : Int := if b = -1 then 20 else b
/-- right numbers of a goal -/
def csGk (n b : Int) : Prop := b = -1 ∨ (0 ≤ b ∧ b < n)
theorem csGk_h (h : csGk n b) : csH n (csGl b) := by
  unfold csGk at h
  unfold csGl csH
  rcases h with h | h
  · rw [if_pos h]; exact Or.inr rfl
  · rw [if_neg (by omega)]; exact Or.inl h
theorem T52_goalOf {post : Int → Prop} (h1 : csGk n b → post (csGl b)) (h0 : ¬ csGk n b → post (-1)) : wpX52_goalOf post n b := by
  unfold wpX52_goalOf
  unfold csGk csGl at h1
  unfold csGk at h0
  refine ⟨fun e => ?_, fun e => T52_isClassB (fun w => ?_) (fun w => h0 (fun q => q.elim e w))⟩
  · have := h1 (Or.inl e); rw [if_pos e] at this; exact this
  · have := h1 (Or.inr w); rw [if_neg e] at this; exact this
theorem T52_axiom {post : Int → Int → Int → (Int → Int) → (Int → Int) → (Int → Int) → (Int → Int) → (Int → Int) → (Int → Int) → Prop} {so : Int} {mo : Int → Int} (hn : 0 ≤ n ∧ n ≤ 20) (hm : 0 ≤ m ∧ m ≤ 40) (hA : csAx n L O R m) (hS : csSd n L O R Th m s) (h1 : ¬ ((0 ≤ a ∧ a < n) ∧ csGk n b ∧ csGk n c) → post (-1) m so L O R Th s mo) (h2 : (0 ≤ a ∧ a < n) ∧ csGk n b ∧ csGk n c → b = a → post (-2) m so L O R Th s mo) (h4 : (0 ≤ a ∧ a < n) ∧ csGk n b ∧ csGk n c → b ≠ a → m = 40 → post (-4) m so L O R Th s mo) (h0 : (0 ≤ a ∧ a < n) ∧ csGk n b ∧ csGk n c → b ≠ a → m < 40 → csAx n (updI L m a) (updI O m b) (updI R m (csGl c)) (m + 1) → csSd n (updI L m a) (updI O m b) (updI R m (csGl c)) (updI Th m 1) (m + 1) (csFg n (updI L m a) (updI O m b) (updI R m (csGl c)) (updI Th m 1) (m + 1) m 0 s) → ∀ mo', post m (m + 1) 0 (updI L m a) (updI O m b) (updI R m (csGl c)) (updI Th m 1) (csCl n (updI L m a) (updI O m b) (updI R m (csGl c)) (updI Th m 1) (m + 1) (csFg n (updI L m a) (updI O m b) (updI R m (csGl c)) (updI Th m 1) (m + 1) m 0 s)) mo') : wpX52_axiom post n m so L O R Th s mo a b c := by
  have t36 : (0 ≤ a ∧ a < n) ∧ csGk n b ∧ csGk n c → wX52_axiom_36 post a b c n m so L O R Th s mo := fun w => by
    unfold wX52_axiom_36
    refine ⟨fun e => h2 w e, fun e => ⟨fun e2 => h4 w e e2, fun e2 => ⟨by omega, fun _ e3 _ e4 => ?_⟩⟩⟩
    rw [e3, e4]
    have A2 : csAx n (updI L m a) (updI O m b) (updI R m (csGl c)) (m + 1) := fun k k0 k1 => by
      by_cases q : k = m
      · rw [q, updI_s, updI_s, updI_s]
        exact ⟨w.1, w.2.1, csGk_h w.2.2⟩
      · rw [updI_n q, updI_n q, updI_n q]; exact hA k k0 (by omega)
    have S2 := csSd_ax (Th' := updI Th m 1) hn.2 hS hm.1 A2 (fun k k0 k1 => ⟨updI_n (by omega), updI_n (by omega), updI_n (by omega), updI_n (by omega)⟩)
    have H := h0 w e (by omega) A2 S2
    have t94 : wX52_axiom_94 post m (csGl c) n m (updI L m a) (updI O m b) R Th s mo := by
      unfold wX52_axiom_94
      refine ⟨by omega, fun _ f1 => ⟨by omega, fun _ f2 => ⟨by omega, fun _ f3 => ?_⟩⟩⟩
      rw [f1, f2, f3]
      refine ⟨by omega, ?_⟩
      rw [show m + 1 - 1 = m by omega]
      exact T52_forget hn (by omega) A2 (by omega) (fun mo' => T52_close hn (by omega) (csSd_ok S2) (H mo'))
    unfold csGl at t94
    have cb := w.2.2
    unfold csGk at cb
    refine ⟨fun q => ?_, fun q => ?_⟩
    · rw [if_neg (by omega)] at t94; exact t94
    · rw [if_pos (by omega)] at t94; exact t94
  unfold wpX52_axiom
  refine T52_isClassB (fun wa => ⟨fun e => ⟨fun e2 => t36 ⟨wa, Or.inl e, Or.inl e2⟩, fun e2 => T52_isClassB (fun wc => t36 ⟨wa, Or.inl e, Or.inr wc⟩) (fun wc => h1 (fun q => q.2.2.elim e2 wc))⟩, fun e => T52_isClassB (fun wb => ⟨fun e2 => t36 ⟨wa, Or.inr wb, Or.inl e2⟩, fun e2 => T52_isClassB (fun wc => t36 ⟨wa, Or.inr wb, Or.inr wc⟩) (fun wc => h1 (fun q => q.2.2.elim e2 wc))⟩) (fun wb => h1 (fun q => q.2.1.elim e wb))⟩) (fun wa => h1 (fun q => wa q.1))
end

/-! ClassifySort, the reference (X52): classes, things, removal, fuel, what is told -/
/-- outside of what is there nothing is known -/
def csZ (n : Int) (s : Int → Int) : Prop := ∀ x, ¬ ((0 ≤ x ∧ x / 21 < n) ∧ csH n (x % 21)) → s x = 3
noncomputable def csOp (s : Int → Int) : Int := cntI (fun x => s x = 2) 420
section
variable {n m f g a b c x d e : Int} {L O R Th fa s mk fi pl lk : Int → Int}
/-- one more class -/
theorem csSd_cs (h : csSd n L O R Th m s) (hz : csZ n s) (hn : 0 ≤ n ∧ n < 20) : csSd (n + 1) L O R Th m s := fun u v u0 u1 hv => by
  by_cases w : u < n ∧ csH n v
  · exact h u v u0 w.1 w.2
  · have e1 : (21 * u + v) / 21 = u := by unfold csH at hv; omega
    have e2 : (21 * u + v) % 21 = v := by unfold csH at hv; omega
    have : s (21 * u + v) = 3 := hz _ (by rw [e1, e2]; exact fun q => w ⟨q.1.2, q.2⟩)
    rw [this]; exact ⟨fun q => absurd q (by decide), fun q => absurd q (by decide)⟩
theorem csAx_cs (h : csAx n L O R m) : csAx (n + 1) L O R m := fun k k0 k1 => by
  obtain ⟨a, b, c⟩ := h k k0 k1
  refine ⟨by omega, by omega, ?_⟩
  unfold csH at c ⊢; omega
theorem T52_class0 {post : Int → Int → Int → (Int → Int) → Prop} {so : Int} (hn : 0 ≤ n ∧ n ≤ 20) (hm : 0 ≤ m ∧ m ≤ 40) (hS : csSd n L O R Th m s) (hz : csZ n s) (h4 : n = 20 → post (-4) n so s) (h0 : n < 20 → post n (n + 1) 0 (csCl (n + 1) L O R Th m s)) : wpX52_class0 post n m so L O R Th s := by
  unfold wpX52_class0
  refine ⟨h4, fun e => ⟨by omega, fun _ e1 => ?_⟩⟩
  rw [e1]
  refine T52_close (by omega) hm (csSd_ok (csSd_cs hS hz (by omega))) ⟨by omega, ?_⟩
  rw [show n + 1 - 1 = n by omega]
  exact h0 (by omega)
theorem T52_thing {post : Int → Int → Prop} {t : Int} (ht : 0 ≤ t ∧ t ≤ 8) (h4 : t = 8 → post (-4) t) (h0 : t < 8 → post t (t + 1)) : wpX52_thing post t := by
  unfold wpX52_thing
  refine ⟨h4, fun e => ⟨by omega, fun _ e1 => ?_⟩⟩
  rw [e1]
  refine ⟨by omega, ?_⟩
  rw [show t + 1 - 1 = t by omega]
  exact h0 (by omega)
theorem T52_openPairs {post : Int → Prop} (hp : post (csOp s)) : wpX52_openPairs post s := by
  unfold wpX52_openPairs
  refine wl2 (fun d y i => wX52_openPairs_4 _ s d y i) (fun y i => (0 ≤ i ∧ i ≤ 420) ∧ y = cntI (fun x => s x = 2) i.toNat) (fun y i => (420 - i).toNat) ?_ 0 0 ⟨by decide, rfl⟩
  rintro y i ⟨hi, hy⟩ d ih
  have cb := cntI_b (fun x => s x = 2) i.toNat
  rw [wX52_openPairs_4]
  refine ⟨fun z => ?_, fun z => ⟨by omega, fun e => ⟨by omega, fun _ e1 => ⟨by omega, fun _ e2 => ?_⟩⟩, fun e => ⟨by omega, fun _ e1 => ⟨by omega, fun _ e2 => ?_⟩⟩⟩⟩
  · have : i = 420 := by omega
    rw [hy, this]; exact hp
  · rw [e1, e2]
    exact ih _ _ ⟨by omega, by rw [cntI_t (p := fun x => s x = 2) hi.1 e, hy]⟩ (by omega)
  · rw [e1, e2]
    exact ih _ _ ⟨by omega, by rw [cntI_f (p := fun x => s x = 2) hi.1 e, hy]; omega⟩ (by omega)
/-- how many are known no more -/
noncomputable def csLo (s s' : Int → Int) : Int := cntI (fun x => ¬ s x = 3 ∧ s' x = 3) 420
theorem T52_remove {post : Int → Int → (Int → Int) → (Int → Int) → (Int → Int) → (Int → Int) → Prop} {so : Int} {be mo : Int → Int} (hn : 0 ≤ n ∧ n ≤ 20) (hm : 0 ≤ m ∧ m ≤ 40) (hA : csAx n L O R m) (hS : csSd n L O R Th m s) (h1 : ¬ ((0 ≤ x ∧ x < m) ∧ ¬ Th x = 0) → post (-1) so Th s be mo) (h0 : (0 ≤ x ∧ x < m) ∧ ¬ Th x = 0 → csSd n L O R (updI Th x 0) m (csFg n L O R Th m x 1 s) → ∀ be' mo', post (csLo s (csCl n L O R (updI Th x 0) m (csFg n L O R Th m x 1 s))) 0 (updI Th x 0) (csCl n L O R (updI Th x 0) m (csFg n L O R Th m x 1 s)) be' mo') : wpX52_remove post n m so L O R Th s be mo x := by
  unfold wpX52_remove
  refine ⟨fun e => h1 (by omega), fun e => ⟨fun e2 => h1 (by omega), fun e2 => ⟨by omega, fun e3 => h1 (fun w => w.2 e3), fun e3 => ?_⟩⟩⟩
  have hx : 0 ≤ x ∧ x < m := by omega
  have S2 := csSd_rm hn.2 hS hx hA
  have H := h0 ⟨hx, e3⟩ S2
  refine zl2 (fun d i be => wX52_remove_25 _ s d i be) (fun i be => 0 ≤ i ∧ ∀ c, 0 ≤ c → c < i → be c = s c) 420 ?_ ⟨by decide, fun c p q => by omega⟩ (by decide)
  rintro d i be ⟨i0, hi⟩ hN ih
  rw [wX52_remove_25]
  refine ⟨fun z => T52_forget hn hm hA hx (fun mo' _ e4 => ?_), fun z => ⟨by omega, fun _ e4 _ e5 => ⟨by omega, fun _ e6 => ?_⟩⟩⟩
  · rw [e4]
    refine T52_close hn hm (csSd_ok S2) ?_
    obtain ⟨s', es⟩ : ∃ s', s' = csCl n L O R (updI Th x 0) m (csFg n L O R Th m x 1 s) := ⟨_, rfl⟩
    rw [← es] at H ⊢
    refine wl2 (fun d y i => wX52_remove_76 _ s' be d y i) (fun y i => (0 ≤ i ∧ i ≤ 420) ∧ y = cntI (fun x => ¬ s x = 3 ∧ s' x = 3) i.toNat) (fun y i => (420 - i).toNat) ?_ 0 0 ⟨by decide, rfl⟩
    rintro y j ⟨hj, hy⟩ d2 ih2
    have cb := cntI_b (fun x => ¬ s x = 3 ∧ s' x = 3) j.toNat
    rw [wX52_remove_76]
    have no : ¬ (¬ s j = 3 ∧ s' j = 3) → ¬ 420 ≤ j → (zR (y + 0) ∧ ∀ u : Int, u = y + 0 → (zR (j + 1) ∧ ∀ v : Int, v = j + 1 → wX52_remove_76 (fun (x2_42 : Int) => post x2_42 0 (updI Th x 0) s' be mo') s' be d2 u v)) := fun h hl => ⟨by omega, fun _ e1 => ⟨by omega, fun _ e2 => by
      rw [e1, e2]
      exact ih2 _ _ ⟨by omega, by rw [cntI_f (p := fun x => ¬ s x = 3 ∧ s' x = 3) hj.1 h, hy]; omega⟩ (by omega)⟩⟩
    refine ⟨fun z2 => ?_, fun z2 => ⟨by omega, fun e7 => no (fun w => w.1 (by rw [← hi j hj.1 (by omega)]; exact e7)) z2, fun e7 => ⟨fun e8 => ⟨by omega, fun _ e1 => ⟨by omega, fun _ e2 => ?_⟩⟩, fun e8 => no (fun w => e8 w.2) z2⟩⟩⟩
    · have : j = 420 := by omega
      rw [hy, this]; exact H be mo'
    · rw [e1, e2]
      have ok : ¬ s j = 3 ∧ s' j = 3 := ⟨by rw [← hi j hj.1 (by omega)]; exact e7, e8⟩
      exact ih2 _ _ ⟨by omega, by rw [cntI_t (p := fun x => ¬ s x = 3 ∧ s' x = 3) hj.1 ok, hy]⟩ (by omega)
  · rw [e5, e4, e6]
    refine ih _ (by omega) ⟨by omega, fun c p q => ?_⟩
    by_cases w : c = i
    · rw [w, updI_s]
    · rw [updI_n w]; exact hi c p (by omega)
/-- open pairs are forgotten -/
noncomputable def csFo (s : Int → Int) : Int → Int := fun x => if 0 ≤ x ∧ x < 420 ∧ s x = 2 then 3 else s x
theorem csSd_fo (hn : n ≤ 20) (h : csSd n L O R Th m s) : csSd n L O R Th m (csFo s) := fun u v u0 u1 hv => by
  unfold csFo
  by_cases w : 0 ≤ 21 * u + v ∧ 21 * u + v < 420 ∧ s (21 * u + v) = 2
  · rw [if_pos w]; exact ⟨fun q => absurd q (by decide), fun q => absurd q (by decide)⟩
  · rw [if_neg w]; exact h u v u0 u1 hv
theorem T52_fuel {post : Int → Int → Int → (Int → Int) → Prop} {so : Int} (h2 : ¬ (0 ≤ x ∧ x ≤ 20) → post (-2) f so s) (h0 : 0 ≤ x ∧ x ≤ 20 → post (csOp s) x 0 (csFo s)) : wpX52_fuel post f so s x := by
  unfold wpX52_fuel
  refine ⟨fun e => h2 (by omega), fun e => ⟨fun e2 => T52_openPairs ?_, fun e2 => h2 (by omega)⟩⟩
  have H := h0 ⟨by omega, e2⟩
  refine zl2 (fun d i s' => wX52_fuel_20 _ d i s') (fun i s' => 0 ≤ i ∧ ∀ y, s' y = if 0 ≤ y ∧ y < i ∧ s y = 2 then 3 else s y) 420 ?_ ⟨by decide, fun y => (if_neg (by omega)).symm⟩ (by decide)
  rintro d i s' ⟨i0, hi⟩ hN ih
  rw [wX52_fuel_20]
  have cur : s' i = s i := by rw [hi]; exact if_neg (by omega)
  refine ⟨fun z => ?_, fun z => ⟨by omega, fun e3 _ e4 => ⟨by omega, fun _ e5 => ?_⟩, fun e3 _ e4 _ e5 => ⟨by omega, fun _ e6 => ?_⟩⟩⟩
  · have : s' = csFo s := by
      funext y
      rw [hi]
      unfold csFo
      rw [show i = 420 by omega]
    rw [this]; exact H
  · rw [e4, e5]
    refine ih _ (by omega) ⟨by omega, fun y => ?_⟩
    by_cases w : y = i
    · rw [w, updI_s, if_pos ⟨i0, by omega, by rw [← cur]; exact e3⟩]
    · rw [updI_n w, hi]
      by_cases q : 0 ≤ y ∧ y < i ∧ s y = 2
      · rw [if_pos q, if_pos (by omega)]
      · rw [if_neg q, if_neg (by omega)]
  · rw [e5, e4, e6]
    refine ih _ (by omega) ⟨by omega, fun y => ?_⟩
    rw [cur] at e3 ⊢
    by_cases w : y = i
    · rw [w, updI_s, if_neg (fun q => e3 q.2.2)]
    · rw [updI_n w, hi]
      by_cases q : 0 ≤ y ∧ y < i ∧ s y = 2
      · rw [if_pos q, if_pos (by omega)]
      · rw [if_neg q, if_neg (by omega)]
theorem csGk_n : ¬ csGk n b → ∀ y : Int, y = -1 → ¬ 0 ≤ y := fun _ y e => by omega
theorem csGl_b (hn : 0 ≤ n ∧ n ≤ 20) (h : csGk n b) : 0 ≤ csGl b ∧ csGl b ≤ 20 := by
  have := csGk_h h
  unfold csH at this; omega
theorem T52_known {post : Int → Prop} (hn : 0 ≤ n ∧ n ≤ 20) (h1 : ¬ ((0 ≤ a ∧ a < n) ∧ csGk n b) → post (-1)) (h0 : (0 ≤ a ∧ a < n) ∧ csGk n b → post (s (21 * a + csGl b))) : wpX52_known post n s a b := by
  unfold wpX52_known
  refine T52_goalOf (fun gb => T52_isClassB (fun wa => ?_) (fun wa => h1 (fun q => wa q.1))) (fun gb => T52_isClassB (fun wa => ⟨fun q => absurd q (by decide), fun _ => h1 (fun q => gb q.2)⟩) (fun wa => h1 (fun q => wa q.1)))
  have B := csGl_b hn gb
  exact ⟨fun _ => ⟨by omega, h0 ⟨wa, gb⟩⟩, fun q => absurd B.1 q⟩
theorem T52_ask {post : Int → (Int → Int) → (Int → Int) → (Int → Int) → Int → Prop} {fc : Int} (hn : 0 ≤ n ∧ n ≤ 20) (hm : 0 ≤ m ∧ m ≤ 40) (hA : csAx n L O R m) (h1 : ¬ ((0 ≤ a ∧ a < n) ∧ csGk n b) → post (-1) fa mk fi fc) (h0 : (0 ≤ a ∧ a < n) ∧ csGk n b → ∀ fa' mk' fi' fc', post (csAn L O R Th m f (csGl b) (csOne a)).1 fa' mk' fi' fc') : wpX52_ask post n m f L O R Th fa mk fi fc a b := by
  unfold wpX52_ask
  refine T52_goalOf (fun gb => T52_isClassB (fun wa => ?_) (fun wa => h1 (fun q => wa q.1))) (fun gb => T52_isClassB (fun wa => ⟨fun q => absurd q (by decide), fun _ => h1 (fun q => gb q.2)⟩) (fun wa => h1 (fun q => wa q.1)))
  have B := csGl_b hn gb
  exact ⟨fun _ => T52_alone hn hm hA B (fun r l' e1 e2 fa' mk' fi' _ _ _ => by rw [← e1]; exact h0 ⟨wa, gb⟩ fa' mk' fi' _), fun q => absurd B.1 q⟩
theorem T52_put {post : Int → (Int → Int) → Prop} {me : Int → Int} {t k : Int} (hn : 0 ≤ n ∧ n ≤ 20) (ht : 0 ≤ t ∧ t ≤ 8) (h1 : ¬ ((0 ≤ k ∧ k < t) ∧ 0 ≤ c ∧ c < n) → post (-1) me) (h0 : (0 ≤ k ∧ k < t) ∧ 0 ≤ c ∧ c < n → post (if me (20 * k + c) = 0 then 1 else 0) (updI me (20 * k + c) 1)) : wpX52_put post n t me k c := by
  unfold wpX52_put
  refine ⟨fun e => h1 (by omega), fun e => ⟨fun e2 => h1 (by omega), fun e2 => T52_isClassB (fun w => ⟨by omega, fun _ e3 _ e4 => ?_⟩) (fun w => h1 (fun q => w q.2))⟩⟩
  have H := h0 ⟨by omega, w⟩
  rw [e4, e3]
  exact ⟨fun z => by rw [if_pos z] at H; exact H, fun z => by rw [if_neg z] at H; exact H⟩
end

/-! ClassifySort, the reference (X52): the i-th of what is so -/
def csKp (p : Int → Prop) (i d : Int) : Prop := p d ∧ cntI p d.toNat = i
/-- the i-th (from 0) below N; -6 for none -/
noncomputable def csKt (p : Int → Prop) (N : Nat) (i : Int) : Int := if fstI (csKp p i) N = N then -6 else fstI (csKp p i) N
theorem csKt_y {p : Int → Prop} {N : Nat} {i d : Int} (h0 : 0 ≤ d ∧ d < N) (h : csKp p i d) (hn : ∀ j, 0 ≤ j → j < d → ¬ csKp p i j) : csKt p N i = d := by
  have : fstI (csKp p i) N = d := fstI_u h0.1 (by omega) (fun _ => h) hn
  unfold csKt
  rw [this, if_neg (by omega)]
theorem csKt_n {p : Int → Prop} {N : Nat} {i : Int} (hn : ∀ j : Int, 0 ≤ j → j < N → ¬ csKp p i j) : csKt p N i = -6 := by
  have : fstI (csKp p i) N = N := fstI_u (by omega) (Int.le_refl _) (fun q => absurd q (Int.lt_irrefl _)) hn
  unfold csKt
  rw [this, if_pos rfl]
theorem csKt_neg {p : Int → Prop} {N : Nat} {i : Int} (h : i < 0) : csKt p N i = -6 := csKt_n (fun j _ _ w => by have := cntI_b p j.toNat; have := w.2; omega)
/-- a lesser placed one is the same -/
def csSe (s pl : Int → Int) (d : Int) : Prop := ∃ e, (0 ≤ e ∧ e < d) ∧ ¬ pl e = 0 ∧ csB s e d ∧ csB s d e
def csHb (n : Int) (s pl : Int → Int) (d : Int) : Prop := ∃ c, (0 ≤ c ∧ c < n) ∧ ¬ pl c = 0 ∧ csDi n s pl c d
def csPp (n : Int) (s pl : Int → Int) (c d : Int) : Prop := ¬ pl d = 0 ∧ ¬ csSe s pl d ∧ (¬ pl c = 0 → csDi n s pl c d) ∧ (pl c = 0 → ¬ csHb n s pl d)
def csPc (n : Int) (s pl : Int → Int) (c d : Int) : Prop := ¬ pl c = 0 ∧ ¬ pl d = 0 ∧ ¬ csSe s pl d ∧ csDi n s pl d c
section
variable {n m f g a b c x d e i : Int} {L O R Th fa s mk fi pl lk : Int → Int}
theorem T52_second {post : Int → Prop} (hd : 0 ≤ d ∧ d < 20) (h1 : csSe s pl d → post 1) (h0 : ¬ csSe s pl d → post 0) : wpX52_isSecond post s pl d := by
  unfold wpX52_isSecond
  refine wl2 (fun f x i => wX52_isSecond_4 _ d s pl f x i) (fun x i => (0 ≤ i ∧ i ≤ d) ∧ (x = 0 ∨ x = 1) ∧ (x = 1 → csSe s pl d) ∧ (x = 0 → ∀ e, 0 ≤ e → e < i → ¬ (¬ pl e = 0 ∧ csB s e d ∧ csB s d e))) (fun x i => (d - i).toNat) ?_ 0 0 ⟨by omega, Or.inl rfl, fun q => absurd q (by decide), fun _ e p q => by omega⟩
  rintro x i ⟨hi, hx, h1', h0'⟩ f ih
  rw [wX52_isSecond_4]
  have no : x = 0 → ¬ (¬ pl i = 0 ∧ csB s i d ∧ csB s d i) → i < d → ∀ y, y = i + 1 → wX52_isSecond_4 (fun (x2_20 : Int) => (x2_20 = 0 ∨ x2_20 = 1) ∧ (post x2_20)) d s pl f 0 y := fun x0 hh lt y ey => by
    rw [ey]
    refine ih _ _ ⟨by omega, Or.inl rfl, fun q => absurd q (by decide), fun _ e p q => ?_⟩ (by omega)
    by_cases w : e = i
    · rw [w]; exact hh
    · exact h0' x0 e p (by omega)
  refine ⟨fun z => ⟨hx, ?_⟩, fun z => ⟨fun x0 => ⟨by omega, fun e => ⟨by omega, no x0 (fun w => w.1 e) (by omega)⟩, fun e => T52_belowB ⟨hi.1, by omega⟩ ⟨hd.1, by omega⟩ (fun B1 => T52_belowB ⟨hd.1, by omega⟩ ⟨hi.1, by omega⟩ (fun B2 => ⟨by omega, fun _ ey => ?_⟩) (fun B2 => ⟨by omega, no x0 (fun w => B2 w.2.2) (by omega)⟩)) (fun B1 => ⟨by omega, no x0 (fun w => B1 w.2.1) (by omega)⟩)⟩, fun x0 => ⟨by omega, fun _ ey => ?_⟩⟩⟩
  · rcases hx with q | q
    · rw [q]; exact h0 (fun ⟨e, he, w⟩ => h0' q e he.1 (by omega) w)
    · rw [q]; exact h1 (h1' q)
  · rw [ey]
    exact ih _ _ ⟨by omega, Or.inr rfl, fun _ => ⟨i, by omega, e, B1, B2⟩, fun q => absurd q (by decide)⟩ (by omega)
  · rw [ey]
    have x1 : x = 1 := by omega
    exact ih _ _ ⟨by omega, Or.inr rfl, fun _ => h1' x1, fun q => absurd q (by decide)⟩ (by omega)
theorem T52_hasBelow {post : Int → Prop} (hn : 0 ≤ n ∧ n ≤ 20) (hd : 0 ≤ d ∧ d < 20) (h1 : csHb n s pl d → post 1) (h0 : ¬ csHb n s pl d → post 0) : wpX52_hasBelow post n s pl d := by
  unfold wpX52_hasBelow
  refine wl2 (fun f x i => wX52_hasBelow_4 _ d n s pl f x i) (fun x i => (0 ≤ i ∧ i ≤ n) ∧ (x = 0 ∨ x = 1) ∧ (x = 1 → csHb n s pl d) ∧ (x = 0 → ∀ e, 0 ≤ e → e < i → ¬ (¬ pl e = 0 ∧ csDi n s pl e d))) (fun x i => (n - i).toNat) ?_ 0 0 ⟨by omega, Or.inl rfl, fun q => absurd q (by decide), fun _ e p q => by omega⟩
  rintro x i ⟨hi, hx, h1', h0'⟩ f ih
  rw [wX52_hasBelow_4]
  have no : x = 0 → ¬ (¬ pl i = 0 ∧ csDi n s pl i d) → i < n → ∀ y, y = i + 1 → wX52_hasBelow_4 (fun (x2_16 : Int) => (x2_16 = 0 ∨ x2_16 = 1) ∧ (post x2_16)) d n s pl f 0 y := fun x0 hh lt y ey => by
    rw [ey]
    refine ih _ _ ⟨by omega, Or.inl rfl, fun q => absurd q (by decide), fun _ e p q => ?_⟩ (by omega)
    by_cases w : e = i
    · rw [w]; exact hh
    · exact h0' x0 e p (by omega)
  refine ⟨fun z => ⟨hx, ?_⟩, fun z => ⟨fun x0 => ⟨by omega, fun e => ⟨by omega, no x0 (fun w => w.1 e) (by omega)⟩, fun e => T52_direct hn ⟨hi.1, by omega⟩ hd (fun D => ⟨fun q => absurd q (by decide), fun _ => ⟨by omega, fun _ ey => ?_⟩⟩) (fun D => ⟨fun _ => ⟨by omega, no x0 (fun w => D w.2) (by omega)⟩, fun q => absurd rfl q⟩)⟩, fun x0 => ⟨by omega, fun _ ey => ?_⟩⟩⟩
  · rcases hx with q | q
    · rw [q]; exact h0 (fun ⟨e, he, w⟩ => h0' q e he.1 (by omega) w)
    · rw [q]; exact h1 (h1' q)
  · rw [ey]
    exact ih _ _ ⟨by omega, Or.inr rfl, fun _ => ⟨i, by omega, e, D⟩, fun q => absurd q (by decide)⟩ (by omega)
  · rw [ey]
    have x1 : x = 1 := by omega
    exact ih _ _ ⟨by omega, Or.inr rfl, fun _ => h1' x1, fun q => absurd q (by decide)⟩ (by omega)
/-- what such a loop knows -/
def csKi (p : Int → Prop) (i left d : Int) : Prop := left = i - cntI p d.toNat ∧ ∀ j, 0 ≤ j → j < d → ¬ csKp p i j
theorem csKi_0 {p : Int → Prop} : csKi p i i 0 := ⟨by show i = i - 0; omega, fun j a b => by omega⟩
theorem csKi_f {p : Int → Prop} {left : Int} (h : csKi p i left d) (hd : 0 ≤ d) (hp : ¬ p d) : csKi p i (left - 0) (d + 1) := by
  refine ⟨by rw [cntI_f hd hp, h.1]; omega, fun j a b => ?_⟩
  by_cases e : j = d
  · rw [e]; exact fun w => hp w.1
  · exact h.2 j a (by omega)
theorem csKi_t {p : Int → Prop} {left : Int} (h : csKi p i left d) (hd : 0 ≤ d) (hp : p d) (hl : ¬ left = 0) : csKi p i (left - 1) (d + 1) := by
  refine ⟨by rw [cntI_t hd hp, h.1]; omega, fun j a b => ?_⟩
  by_cases e : j = d
  · rw [e]; exact fun w => hl (by rw [h.1, w.2]; omega)
  · exact h.2 j a (by omega)
theorem csKi_y {p : Int → Prop} {left : Int} {N : Nat} (h : csKi p i left d) (hd : 0 ≤ d ∧ d < N) (hp : p d) (hl : left = 0) : csKt p N i = d := csKt_y hd ⟨hp, by rw [h.1] at hl; omega⟩ h.2
theorem csKi_n {p : Int → Prop} {left : Int} {N : Nat} (h : csKi p i left d) (hd : (N : Int) ≤ d) : csKt p N i = -6 := csKt_n (fun j a b => h.2 j a (by omega))
theorem csKi_b {p : Int → Prop} {left : Int} (h : csKi p i left d) (hd : 0 ≤ d ∧ d ≤ 1000) (hi : 0 ≤ i ∧ i < 2147483648) : zR (left - 0) ∧ zR (left - 1) := by
  have := cntI_b p d.toNat
  have := h.1
  omega
theorem T52_equal {post : Int → Prop} {so : Int} (hn : 0 ≤ n ∧ n ≤ 20) (hi : zR i) (h1 : ¬ (0 ≤ c ∧ c < n) → post (-1)) (h3 : 0 ≤ c ∧ c < n → so = 0 → post (-3)) (h0 : 0 ≤ c ∧ c < n → ¬ so = 0 → post (csKt (fun d => csB s c d ∧ csB s d c) n.toNat i)) : wpX52_equal post n so s c i := by
  unfold wpX52_equal
  refine T52_isClassB (fun w => ⟨h3 w, fun z => ?_⟩) h1
  have H := h0 w z
  obtain ⟨p, ep⟩ : ∃ p : Int → Prop, p = fun d => csB s c d ∧ csB s d c := ⟨_, rfl⟩
  rw [← ep] at H
  refine wl2 (fun f x j => wX52_equal_25 _ _ c i n s f x j) (fun x j => (0 ≤ j ∧ j ≤ n) ∧ csKi p i x j) (fun x j => (n - j).toNat) ?_ i 0 ⟨by omega, csKi_0⟩
  rintro x j ⟨hj, K⟩ f ih
  rw [wX52_equal_25]
  refine ⟨fun z2 => by rw [csKi_n K (by omega)] at H; exact H, fun z2 => ⟨fun e => by rw [csKt_neg e] at H; exact H, fun e => ?_⟩⟩
  have B := csKi_b K ⟨hj.1, by omega⟩ ⟨by omega, hi.2⟩
  have no : ¬ p j → wX52_equal_77 (wX52_equal_25 (fun (x4_29 : Int) => post x4_29) (post (-6)) c i n s f) x j 0 := fun hp => by
    unfold wX52_equal_77
    refine ⟨fun _ => ⟨B.1, fun _ e1 => ⟨by omega, fun _ e2 => ?_⟩⟩, fun q => absurd rfl q⟩
    rw [e1, e2]
    exact ih _ _ ⟨by omega, csKi_f K hj.1 hp⟩ (by omega)
  refine T52_belowB ⟨w.1, by omega⟩ ⟨hj.1, by omega⟩ (fun B1 => T52_belowB ⟨hj.1, by omega⟩ ⟨w.1, by omega⟩ (fun B2 => ⟨fun q => absurd q (by decide), fun _ => ⟨fun e2 => ?_, fun e2 => ?_⟩⟩) (fun B2 => ⟨fun _ => no (fun q => B2 (by rw [ep] at q; exact q.2)), fun q => absurd rfl q⟩)) (fun B1 => ⟨fun _ => no (fun q => B1 (by rw [ep] at q; exact q.1)), fun q => absurd rfl q⟩)
  · rw [csKi_y K ⟨hj.1, by omega⟩ (by rw [ep]; exact ⟨B1, B2⟩) e2] at H; exact H
  · unfold wX52_equal_77
    refine ⟨fun q => absurd q (by decide), fun _ => ⟨B.2, fun _ e3 => ⟨by omega, fun _ e4 => ?_⟩⟩⟩
    rw [e3, e4]
    exact ih _ _ ⟨by omega, csKi_t K hj.1 (by rw [ep]; exact ⟨B1, B2⟩) e2⟩ (by omega)
theorem T52_empty {post : Int → Prop} {so : Int} (hn : 0 ≤ n ∧ n ≤ 20) (hi : zR i) (h3 : so = 0 → post (-3)) (h0 : ¬ so = 0 → post (csKt (fun d => pl d = 0) n.toNat i)) : wpX52_empty post n so pl i := by
  unfold wpX52_empty
  refine ⟨h3, fun z => ?_⟩
  have H := h0 z
  refine wl2 (fun f x j => wX52_empty_14 _ _ i n pl f x j) (fun x j => (0 ≤ j ∧ j ≤ n) ∧ csKi (fun d => pl d = 0) i x j) (fun x j => (n - j).toNat) ?_ i 0 ⟨by omega, csKi_0⟩
  rintro x j ⟨hj, K⟩ f ih
  rw [wX52_empty_14]
  refine ⟨fun z2 => by rw [csKi_n K (by omega)] at H; exact H, fun z2 => ⟨fun e => by rw [csKt_neg e] at H; exact H, fun e => ⟨by omega, fun e2 => ⟨fun e3 => ?_, fun e3 => ?_⟩, fun e2 => ?_⟩⟩⟩
  · rw [csKi_y K ⟨hj.1, by omega⟩ e2 e3] at H; exact H
  · have B := csKi_b K ⟨hj.1, by omega⟩ ⟨by omega, hi.2⟩
    unfold wX52_empty_41
    refine ⟨by omega, fun _ => ⟨B.2, fun _ e4 => ⟨by omega, fun _ e5 => ?_⟩⟩, fun q => absurd e2 q⟩
    rw [e4, e5]
    exact ih _ _ ⟨by omega, csKi_t K hj.1 e2 e3⟩ (by omega)
  · have B := csKi_b K ⟨hj.1, by omega⟩ ⟨by omega, hi.2⟩
    unfold wX52_empty_41
    refine ⟨by omega, fun q => absurd q e2, fun _ => ⟨B.1, fun _ e4 => ⟨by omega, fun _ e5 => ?_⟩⟩⟩
    rw [e4, e5]
    exact ih _ _ ⟨by omega, csKi_f K hj.1 e2⟩ (by omega)
theorem T52_parent {post : Int → Prop} {so : Int} (hn : 0 ≤ n ∧ n ≤ 20) (hi : zR i) (h1 : ¬ (0 ≤ c ∧ c < n) → post (-1)) (h3 : 0 ≤ c ∧ c < n → so = 0 → post (-3)) (h0 : 0 ≤ c ∧ c < n → ¬ so = 0 → post (csKt (csPp n s pl c) n.toNat i)) : wpX52_parent post n so s pl c i := by
  unfold wpX52_parent
  refine T52_isClassB (fun w => ⟨h3 w, fun z => ?_⟩) h1
  have H := h0 w z
  refine wl2 (fun f x j => wX52_parent_25 _ _ c i n s pl f x j) (fun x j => (0 ≤ j ∧ j ≤ n) ∧ csKi (csPp n s pl c) i x j) (fun x j => (n - j).toNat) ?_ i 0 ⟨by omega, csKi_0⟩
  rintro x j ⟨hj, K⟩ f ih
  rw [wX52_parent_25]
  refine ⟨fun z2 => by rw [csKi_n K (by omega)] at H; exact H, fun z2 => ⟨fun e => by rw [csKt_neg e] at H; exact H, fun e => ?_⟩⟩
  have B := csKi_b K ⟨hj.1, by omega⟩ ⟨by omega, hi.2⟩
  have no : ¬ csPp n s pl c j → (((0 : Int) = 0 → (wX52_parent_107 (wX52_parent_25 (fun (x4_43 : Int) => post x4_43) (post (-6)) c i n s pl f) x j 0)) ∧ (¬ (0 : Int) = 0 → (((x = 0 → ((fun (x4_43 : Int) => post x4_43) j)) ∧ (¬ x = 0 → (wX52_parent_107 (wX52_parent_25 (fun (x4_43 : Int) => post x4_43) (post (-6)) c i n s pl f) x j 0)))))) := fun hp => ⟨fun _ => by
    unfold wX52_parent_107
    refine ⟨fun _ => ⟨B.1, fun _ e1 => ⟨by omega, fun _ e2 => ?_⟩⟩, fun q => absurd rfl q⟩
    rw [e1, e2]
    exact ih _ _ ⟨by omega, csKi_f K hj.1 hp⟩ (by omega), fun q => absurd rfl q⟩
  have yes : csPp n s pl c j → (((1 : Int) = 0 → (wX52_parent_107 (wX52_parent_25 (fun (x4_43 : Int) => post x4_43) (post (-6)) c i n s pl f) x j 1)) ∧ (¬ (1 : Int) = 0 → (((x = 0 → ((fun (x4_43 : Int) => post x4_43) j)) ∧ (¬ x = 0 → (wX52_parent_107 (wX52_parent_25 (fun (x4_43 : Int) => post x4_43) (post (-6)) c i n s pl f) x j 1)))))) := fun hp => ⟨fun q => absurd q (by decide), fun _ => ⟨fun e2 => by rw [csKi_y K ⟨hj.1, by omega⟩ hp e2] at H; exact H, fun e2 => by
    unfold wX52_parent_107
    refine ⟨fun q => absurd q (by decide), fun _ => ⟨B.2, fun _ e3 => ⟨by omega, fun _ e4 => ?_⟩⟩⟩
    rw [e3, e4]
    exact ih _ _ ⟨by omega, csKi_t K hj.1 hp e2⟩ (by omega)⟩⟩
  have jb : 0 ≤ j ∧ j < 20 := by omega
  refine ⟨jb, fun e2 => no (fun q => q.1 e2), fun e2 => T52_second jb (fun S => ⟨fun q => absurd q (by decide), fun _ => no (fun q => q.2.1 S)⟩) (fun S => ⟨fun _ => ⟨by omega, fun e3 => T52_hasBelow hn jb (fun Hb => ⟨fun q => absurd q (by decide), fun _ => no (fun q => q.2.2.2 e3 Hb)⟩) (fun Hb => ⟨fun _ => yes ⟨e2, S, fun q => absurd e3 q, fun _ => Hb⟩, fun q => absurd rfl q⟩), fun e3 => T52_direct hn ⟨w.1, by omega⟩ jb (fun D => ⟨fun q => absurd q (by decide), fun _ => yes ⟨e2, S, fun _ => D, fun q => absurd q e3⟩⟩) (fun D => ⟨fun _ => no (fun q => D (q.2.2.1 e3)), fun q => absurd rfl q⟩)⟩, fun q => absurd rfl q⟩)⟩
theorem T52_child {post : Int → Prop} {so : Int} (hn : 0 ≤ n ∧ n ≤ 20) (hi : zR i) (h1 : ¬ (0 ≤ c ∧ c < n) → post (-1)) (h3 : 0 ≤ c ∧ c < n → so = 0 → post (-3)) (h0 : 0 ≤ c ∧ c < n → ¬ so = 0 → post (csKt (csPc n s pl c) n.toNat i)) : wpX52_child post n so s pl c i := by
  unfold wpX52_child
  refine T52_isClassB (fun w => ⟨h3 w, fun z => ?_⟩) h1
  have H := h0 w z
  refine wl2 (fun f x j => wX52_child_25 _ _ c i n s pl f x j) (fun x j => (0 ≤ j ∧ j ≤ n) ∧ csKi (csPc n s pl c) i x j) (fun x j => (n - j).toNat) ?_ i 0 ⟨by omega, csKi_0⟩
  rintro x j ⟨hj, K⟩ f ih
  rw [wX52_child_25]
  refine ⟨fun z2 => by rw [csKi_n K (by omega)] at H; exact H, fun z2 => ⟨fun e => by rw [csKt_neg e] at H; exact H, fun e => ⟨by omega, fun ec => ?_, fun ec => ?_⟩⟩⟩
  · rw [csKt_n (p := csPc n s pl c) (fun j _ _ q => q.1.1 ec)] at H; exact H
  have B := csKi_b K ⟨hj.1, by omega⟩ ⟨by omega, hi.2⟩
  have no : ¬ csPc n s pl c j → (((0 : Int) = 0 → (wX52_child_95 (wX52_child_25 (fun (x4_37 : Int) => post x4_37) (post (-6)) c i n s pl f) x j 0)) ∧ (¬ (0 : Int) = 0 → (((x = 0 → ((fun (x4_37 : Int) => post x4_37) j)) ∧ (¬ x = 0 → (wX52_child_95 (wX52_child_25 (fun (x4_37 : Int) => post x4_37) (post (-6)) c i n s pl f) x j 0)))))) := fun hp => ⟨fun _ => by
    unfold wX52_child_95
    refine ⟨fun _ => ⟨B.1, fun _ e1 => ⟨by omega, fun _ e2 => ?_⟩⟩, fun q => absurd rfl q⟩
    rw [e1, e2]
    exact ih _ _ ⟨by omega, csKi_f K hj.1 hp⟩ (by omega), fun q => absurd rfl q⟩
  have yes : csPc n s pl c j → (((1 : Int) = 0 → (wX52_child_95 (wX52_child_25 (fun (x4_37 : Int) => post x4_37) (post (-6)) c i n s pl f) x j 1)) ∧ (¬ (1 : Int) = 0 → (((x = 0 → ((fun (x4_37 : Int) => post x4_37) j)) ∧ (¬ x = 0 → (wX52_child_95 (wX52_child_25 (fun (x4_37 : Int) => post x4_37) (post (-6)) c i n s pl f) x j 1)))))) := fun hp => ⟨fun q => absurd q (by decide), fun _ => ⟨fun e2 => by rw [csKi_y K ⟨hj.1, by omega⟩ hp e2] at H; exact H, fun e2 => by
    unfold wX52_child_95
    refine ⟨fun q => absurd q (by decide), fun _ => ⟨B.2, fun _ e3 => ⟨by omega, fun _ e4 => ?_⟩⟩⟩
    rw [e3, e4]
    exact ih _ _ ⟨by omega, csKi_t K hj.1 hp e2⟩ (by omega)⟩⟩
  have jb : 0 ≤ j ∧ j < 20 := by omega
  refine ⟨jb, fun e2 => no (fun q => q.2.1 e2), fun e2 => T52_second jb (fun S => ⟨fun q => absurd q (by decide), fun _ => no (fun q => q.2.2.1 S)⟩) (fun S => ⟨fun _ => T52_direct hn jb ⟨w.1, by omega⟩ (fun D => ⟨fun q => absurd q (by decide), fun _ => yes ⟨ec, e2, S, D⟩⟩) (fun D => ⟨fun _ => no (fun q => D q.2.2.2), fun q => absurd rfl q⟩), fun q => absurd rfl q⟩)⟩
theorem T52_open {post : Int → Prop} (hi : zR i) (h1 : csKt (fun x => s x = 2) 420 i = -6 → post (-6)) (h0 : ∀ k, 0 ≤ k → k < 420 → csKt (fun x => s x = 2) 420 i = k → post (32 * (k / 21) + if k % 21 = 20 then 31 else k % 21)) : wpX52_open post s i := by
  unfold wpX52_open
  refine wl2 (fun f x j => wX52_open_4 _ _ i s f x j) (fun x j => (0 ≤ j ∧ j ≤ 420) ∧ csKi (fun x => s x = 2) i x j) (fun x j => (420 - j).toNat) ?_ i 0 ⟨by decide, csKi_0⟩
  rintro x j ⟨hj, K⟩ f ih
  rw [wX52_open_4]
  refine ⟨fun z2 => h1 (csKi_n K (by omega)), fun z2 => ⟨fun e => h1 (csKt_neg e), fun e => ⟨by omega, fun e2 => ?_, fun e2 => ?_⟩⟩⟩
  · have B := csKi_b K ⟨hj.1, by omega⟩ ⟨by omega, hi.2⟩
    unfold wX52_open_30
    refine ⟨fun q => absurd q (by decide), fun _ => ⟨fun e3 => ?_, fun e3 => ?_⟩⟩
    · have H := h0 j hj.1 (by omega) (csKi_y (N := 420) K ⟨hj.1, by omega⟩ e2 e3)
      refine ⟨hj.1, fun e4 => ⟨by omega, ?_⟩, fun e4 => ⟨by omega, ?_⟩⟩
      · rw [if_pos e4] at H; exact H
      · rw [if_neg e4] at H; exact H
    · unfold wX52_open_68
      refine ⟨fun q => absurd q (by decide), fun _ => ⟨B.2, fun _ e4 => ⟨by omega, fun _ e5 => ?_⟩⟩⟩
      rw [e4, e5]
      exact ih _ _ ⟨by omega, csKi_t K hj.1 e2 e3⟩ (by omega)
  · have B := csKi_b K ⟨hj.1, by omega⟩ ⟨by omega, hi.2⟩
    unfold wX52_open_30 wX52_open_68
    refine ⟨fun _ => ⟨fun _ => ⟨B.1, fun _ e4 => ⟨by omega, fun _ e5 => ?_⟩⟩, fun q => absurd rfl q⟩, fun q => absurd rfl q⟩
    rw [e4, e5]
    exact ih _ _ ⟨by omega, csKi_f K hj.1 e2⟩ (by omega)
end

/-! ClassifySort, the reference (X52): things and their types, counts -/
/-- the facts of a thing -/
noncomputable def csIf (me : Int → Int) (x : Int) : Int → Int := fun c => if c < 20 ∧ ¬ me (20 * x + c) = 0 then 1 else 0
/-- a thing is in g -/
def csI (L O R Th : Int → Int) (m f : Int) (me : Int → Int) (x g : Int) : Prop := (csAn L O R Th m f g (csIf me x)).1 = 1
/-- j is a type of the thing x -/
def csTy (n : Int) (s pl : Int → Int) (L O R Th : Int → Int) (m f : Int) (me : Int → Int) (x j : Int) : Prop := (¬ pl j = 0 ∧ ¬ csSe s pl j ∧ csI L O R Th m f me x j) ∧ ∀ k, 0 ≤ k → k < n → ¬ (¬ pl k = 0 ∧ csDi n s pl k j ∧ csI L O R Th m f me x k)
section
variable {n m f g a b c x d e i : Int} {L O R Th fa s mk fi pl me : Int → Int}
theorem T52_rThing {post : Int → (Int → Int) → (Int → Int) → (Int → Int) → Int → Prop} (hn : 0 ≤ n ∧ n ≤ 20) (hm : 0 ≤ m ∧ m ≤ 40) (hA : csAx n L O R m) (hg : 0 ≤ g ∧ g ≤ 20) (hx : 0 ≤ x ∧ x < 8) (hp : ∀ r l', (csAn L O R Th m f g (csIf me x)).1 = r → (csAn L O R Th m f g (csIf me x)).2.2 = l' → ∀ fa' mk' fi', vtQ fi' 0 l' → csMk R mk' l' → (∀ k, k ∈ l' → 0 ≤ k ∧ k < m) → post r fa' mk' fi' l'.length) : wpX52_reasonThing post m f L O R Th me fa mk fi x g := by
  unfold wpX52_reasonThing
  refine zl2 (fun d i fa => wX52_reasonThing_2 _ x me d i fa) (fun i fa => 0 ≤ i ∧ ∀ c, 0 ≤ c → c < i → fa c = csIf me x c) 21 ?_ ⟨by decide, fun c p q => by omega⟩ (by decide)
  rintro d i fa ⟨i0, hi⟩ hN ih
  rw [wX52_reasonThing_2]
  have one : ∀ v fa2 i2, csIf me x i = v → fa2 = updI fa i v → i2 = i + 1 → wX52_reasonThing_2 (fun (f_fact_21 : Int → Int) => wpX52_reason (fun (r_22 : Int) (f_fact_23 : Int → Int) (f_maker_24 : Int → Int) (f_fired_25 : Int → Int) (f_firedCount_26 : Int) => (post r_22 f_fact_23 f_maker_24 f_fired_25 f_firedCount_26)) m f L O R Th f_fact_21 mk fi g) x me d i2 fa2 ∨ ¬ i + 1 ≤ 21 := fun v fa2 i2 hv e1 e2 => by
    by_cases i21 : i + 1 ≤ 21
    · rw [e1, e2]
      refine Or.inl (ih _ (by omega) ⟨by omega, fun c p q => ?_⟩)
      by_cases w : c = i
      · rw [w, updI_s]; exact hv.symm
      · rw [updI_n w]; exact hi c p (by omega)
    · exact Or.inr i21
  refine ⟨fun z => T52_reason hn hm hA hg (fun r fa' mk' fi' l' hr h1 h2 h3 => ?_), fun z => ⟨fun e => ⟨by omega, fun _ e1 => ⟨by omega, fun _ e2 => (one 0 _ _ (if_neg (by omega)) e1 e2).elim id (fun q => absurd (by omega) q)⟩⟩, fun e => ⟨by omega, fun e3 => ⟨by omega, fun _ e1 => ⟨by omega, fun _ e2 => (one 0 _ _ (if_neg (fun w => w.2 e3)) e1 e2).elim id (fun q => absurd (by omega) q)⟩⟩, fun e3 => ⟨by omega, fun _ e1 => ⟨by omega, fun _ e2 => (one 1 _ _ (if_pos ⟨by omega, e3⟩) e1 e2).elim id (fun q => absurd (by omega) q)⟩⟩⟩⟩⟩
  have cc := csRun_c (Th := Th) (f := f) hm.1 hn.2 hA hg 22 fa (csIf me x) [] (fun c c0 c1 => hi c c0 (by omega))
  have hr : csRun L O R Th m f g 22 fa [] = (r, fa', l') := hr
  rw [hr] at cc
  exact hp r l' cc.1.symm cc.2.symm fa' mk' fi' h1 h2 h3
theorem T52_isIn {post : Int → (Int → Int) → (Int → Int) → (Int → Int) → Int → Prop} (hn : 0 ≤ n ∧ n ≤ 20) (hm : 0 ≤ m ∧ m ≤ 40) (hA : csAx n L O R m) (hg : 0 ≤ g ∧ g ≤ 20) (hx : 0 ≤ x ∧ x < 8) (h1 : csI L O R Th m f me x g → ∀ fa' mk' fi' k', post 1 fa' mk' fi' k') (h0 : ¬ csI L O R Th m f me x g → ∀ fa' mk' fi' k', post 0 fa' mk' fi' k') : wpX52_isIn post m f L O R Th me fa mk fi x g := by
  unfold wpX52_isIn
  refine T52_rThing hn hm hA hg hx (fun r l' e1 _ fa' mk' fi' _ _ _ => ⟨fun e => h1 (e1.trans e) _ _ _ _, fun e => h0 (fun w => e (e1.symm.trans w)) _ _ _ _⟩)
/-- is j hidden by one below it -/
theorem T52_t95 {K : Int → (Int → Int) → (Int → Int) → (Int → Int) → Int → Prop} {j q : Int} (hn : 0 ≤ n ∧ n ≤ 20) (hm : 0 ≤ m ∧ m ≤ 40) (hA : csAx n L O R m) (hx : 0 ≤ x ∧ x < 8) (hj : 0 ≤ j ∧ j < 20) (fc : Int) (hq : q = 0 ∨ q = 1) (h1 : q = 1 → (∀ k, 0 ≤ k → k < n → ¬ (¬ pl k = 0 ∧ csDi n s pl k j ∧ csI L O R Th m f me x k)) → ∀ fa' mk' fi' k', K 1 fa' mk' fi' k') (h0 : ¬ (q = 1 ∧ ∀ k, 0 ≤ k → k < n → ¬ (¬ pl k = 0 ∧ csDi n s pl k j ∧ csI L O R Th m f me x k)) → ∀ fa' mk' fi' k', K 0 fa' mk' fi' k') : ∃ fu : Nat, wX52_type_95 K x j n m f L O R Th me s pl fu q 0 fa mk fi fc := by
  have go : ∀ (d : Nat) (q' i' : Int) (fa mk fi : Int → Int) (fc : Int), (0 ≤ i' ∧ i' ≤ n) → (n - i' < d) → ((q' = 1 ∧ q = 1 ∧ ∀ k, 0 ≤ k → k < i' → ¬ (¬ pl k = 0 ∧ csDi n s pl k j ∧ csI L O R Th m f me x k)) ∨ (q' = 0 ∧ ¬ (q = 1 ∧ ∀ k, 0 ≤ k → k < n → ¬ (¬ pl k = 0 ∧ csDi n s pl k j ∧ csI L O R Th m f me x k)))) → wX52_type_95 K x j n m f L O R Th me s pl d q' i' fa mk fi fc := by
    intro d
    induction d with
    | zero => intro q' i' fa mk fi fc hi hd _; exact absurd hd (by omega)
    | succ d ih =>
      intro q' i' fa mk fi fc hi hd h
      rw [wX52_type_95]
      refine ⟨fun z => ?_, fun z => ⟨fun e => ?_, fun e => ?_⟩⟩
      · rcases h with ⟨a1, a2, a3⟩ | ⟨a1, a2⟩
        · rw [a1]; exact h1 a2 (fun k k0 k1 => a3 k k0 (by omega)) _ _ _ _
        · rw [a1]; exact h0 a2 _ _ _ _
      · rcases h with ⟨a1, a2, a3⟩ | ⟨a1, a2⟩
        · exact absurd (a1.symm.trans e) (by decide)
        · rw [a1]; exact h0 a2 _ _ _ _
      · rcases h with ⟨a1, a2, a3⟩ | ⟨a1, a2⟩
        · have no : ¬ (¬ pl i' = 0 ∧ csDi n s pl i' j ∧ csI L O R Th m f me x i') → ∀ i2 fa mk fi fc, i2 = i' + 1 → wX52_type_95 K x j n m f L O R Th me s pl d 1 i2 fa mk fi fc := fun w i2 fa mk fi fc e2 => by
            rw [e2]
            refine ih _ _ _ _ _ _ (by omega) (by omega) (Or.inl ⟨rfl, a2, fun k k0 k1 => ?_⟩)
            by_cases e3 : k = i'
            · rw [e3]; exact w
            · exact a3 k k0 (by omega)
          have ib : 0 ≤ i' ∧ i' < 20 := by omega
          refine ⟨ib, fun e2 => ⟨by omega, fun _ e3 => no (fun w => w.1 e2) _ _ _ _ _ e3⟩, fun e2 => T52_direct hn ib hj (fun D => ⟨fun y => absurd y (by decide), fun _ => T52_isIn hn hm hA (by omega) hx (fun I fa' mk' fi' k' => ⟨fun y => absurd y (by decide), fun _ => ⟨by omega, fun _ e3 => ?_⟩⟩) (fun I fa' mk' fi' k' => ⟨fun _ => ⟨by omega, fun _ e3 => no (fun w => I w.2.2) _ _ _ _ _ e3⟩, fun y => absurd rfl y⟩)⟩) (fun D => ⟨fun _ => ⟨by omega, fun _ e3 => no (fun w => D w.2.1) _ _ _ _ _ e3⟩, fun y => absurd rfl y⟩)⟩
          rw [e3]
          exact ih _ _ _ _ _ _ (by omega) (by omega) (Or.inr ⟨rfl, fun w => w.2 i' hi.1 (by omega) ⟨e2, D, I⟩⟩)
        · exact absurd a1 e
  refine ⟨(n + 1).toNat, go _ q 0 fa mk fi fc (by omega) (by omega) ?_⟩
  rcases hq with e | e
  · exact Or.inr ⟨e, fun w => by rw [e] at w; exact absurd w.1 (by decide)⟩
  · exact Or.inl ⟨e, e, fun k a b => by omega⟩
theorem T52_type {post : Int → (Int → Int) → (Int → Int) → (Int → Int) → Int → Prop} {th so fc : Int} (hn : 0 ≤ n ∧ n ≤ 20) (hm : 0 ≤ m ∧ m ≤ 40) (hA : csAx n L O R m) (ht : th ≤ 8) (hi : zR i) (h1 : ¬ (0 ≤ x ∧ x < th) → post (-1) fa mk fi fc) (h3 : 0 ≤ x ∧ x < th → so = 0 → post (-3) fa mk fi fc) (h5 : 0 ≤ x ∧ x < th → ¬ so = 0 → csI L O R Th m f me x 20 → ∀ fa' mk' fi' k', post (-5) fa' mk' fi' k') (h0 : 0 ≤ x ∧ x < th → ¬ so = 0 → ¬ csI L O R Th m f me x 20 → ∀ fa' mk' fi' k', post (csKt (csTy n s pl L O R Th m f me x) n.toNat i) fa' mk' fi' k') : wpX52_type post n th m f so L O R Th me s pl fa mk fi fc x i := by
  unfold wpX52_type
  refine ⟨fun e => h1 (by omega), fun e => ⟨fun e2 => ⟨h3 (by omega), fun z => ?_⟩, fun e2 => h1 (by omega)⟩⟩
  have hx : 0 ≤ x ∧ x < 8 := by omega
  refine T52_rThing hn hm hA (by decide) hx (fun r l' e1 _ fa' mk' fi' _ _ _ => ⟨fun e3 => h5 (by omega) z (e1.trans e3) _ _ _ _, fun e3 => ?_⟩)
  have H := h0 (by omega) z (fun w => e3 (e1.symm.trans w))
  have go : ∀ (d : Nat) (y j : Int) (fa mk fi : Int → Int) (fc : Int), (0 ≤ j ∧ j ≤ n) → (n - j < d) → csKi (csTy n s pl L O R Th m f me x) i y j → wX52_type_43 (fun (x4_85 : Int) (f_fact_86 : Int → Int) (f_maker_87 : Int → Int) (f_fired_88 : Int → Int) (f_firedCount_89 : Int) => post x4_85 f_fact_86 f_maker_87 f_fired_88 f_firedCount_89) (fun (f_fact_90 : Int → Int) (f_maker_91 : Int → Int) (f_fired_92 : Int → Int) (f_firedCount_93 : Int) => post (-6) f_fact_90 f_maker_91 f_fired_92 f_firedCount_93) x i n m f L O R Th me s pl d y j fa mk fi fc := by
    intro d
    induction d with
    | zero => intro y j fa mk fi fc hj hd _; exact absurd hd (by omega)
    | succ d ih =>
      intro y j fa mk fi fc hj hd K
      rw [wX52_type_43]
      refine ⟨fun z2 => by have H := H fa mk fi fc; rw [csKi_n K (by omega)] at H; exact H, fun z2 => ⟨fun e4 => by have H := H fa mk fi fc; rw [csKt_neg e4] at H; exact H, fun e4 => ?_⟩⟩
      have B := csKi_b K ⟨hj.1, by omega⟩ ⟨by omega, hi.2⟩
      have jb : 0 ≤ j ∧ j < 20 := by omega
      have no : ¬ csTy n s pl L O R Th m f me x j → ∀ fa mk fi fc, wX52_type_165 (wX52_type_43 (fun (x4_85 : Int) (f_fact_86 : Int → Int) (f_maker_87 : Int → Int) (f_fired_88 : Int → Int) (f_firedCount_89 : Int) => post x4_85 f_fact_86 f_maker_87 f_fired_88 f_firedCount_89) (fun (f_fact_90 : Int → Int) (f_maker_91 : Int → Int) (f_fired_92 : Int → Int) (f_firedCount_93 : Int) => post (-6) f_fact_90 f_maker_91 f_fired_92 f_firedCount_93) x i n m f L O R Th me s pl d) y j 0 fa mk fi fc := fun w fa mk fi fc => by
        unfold wX52_type_165
        refine ⟨fun _ => ⟨B.1, fun _ e5 => ⟨by omega, fun _ e6 => ?_⟩⟩, fun q => absurd rfl q⟩
        rw [e5, e6]
        exact ih _ _ _ _ _ _ (by omega) (by omega) (csKi_f K hj.1 w)
      have yes : csTy n s pl L O R Th m f me x j → ¬ y = 0 → ∀ fa mk fi fc, wX52_type_165 (wX52_type_43 (fun (x4_85 : Int) (f_fact_86 : Int → Int) (f_maker_87 : Int → Int) (f_fired_88 : Int → Int) (f_firedCount_89 : Int) => post x4_85 f_fact_86 f_maker_87 f_fired_88 f_firedCount_89) (fun (f_fact_90 : Int → Int) (f_maker_91 : Int → Int) (f_fired_92 : Int → Int) (f_firedCount_93 : Int) => post (-6) f_fact_90 f_maker_91 f_fired_92 f_firedCount_93) x i n m f L O R Th me s pl d) y j 1 fa mk fi fc := fun w e7 fa mk fi fc => by
        unfold wX52_type_165
        refine ⟨fun q => absurd q (by decide), fun _ => ⟨B.2, fun _ e5 => ⟨by omega, fun _ e6 => ?_⟩⟩⟩
        rw [e5, e6]
        exact ih _ _ _ _ _ _ (by omega) (by omega) (csKi_t K hj.1 w e7)
      refine ⟨jb, fun e5 => ?_, fun e5 => T52_second jb (fun S => ⟨fun q => absurd q (by decide), fun _ => ?_⟩) (fun S => ⟨fun _ => T52_isIn hn hm hA (by omega) hx (fun I fa mk fi fc => ⟨fun q => absurd q (by decide), fun _ => ?_⟩) (fun I fa mk fi fc => ⟨fun _ => ?_, fun q => absurd rfl q⟩), fun q => absurd rfl q⟩)⟩
      · exact T52_t95 hn hm hA hx jb fc (Or.inl rfl) (fun q => absurd q (by decide)) (fun _ fa mk fi fc => ⟨fun _ => no (fun w => w.1.1 e5) _ _ _ _, fun q => absurd rfl q⟩)
      · exact T52_t95 hn hm hA hx jb fc (Or.inl rfl) (fun q => absurd q (by decide)) (fun _ fa mk fi fc => ⟨fun _ => no (fun w => w.1.2.1 S) _ _ _ _, fun q => absurd rfl q⟩)
      · refine T52_t95 hn hm hA hx jb fc (Or.inr rfl) (fun _ A fa mk fi fc => ⟨fun q => absurd q (by decide), fun _ => ⟨fun e6 => ?_, fun e6 => yes ⟨⟨e5, S, I⟩, A⟩ e6 _ _ _ _⟩⟩) (fun A fa mk fi fc => ⟨fun _ => no (fun w => A ⟨rfl, w.2⟩) _ _ _ _, fun q => absurd rfl q⟩)
        have H := H fa mk fi fc
        rw [csKi_y K (by omega) ⟨⟨e5, S, I⟩, A⟩ e6] at H
        exact H
      · exact T52_t95 hn hm hA hx jb fc (Or.inl rfl) (fun q => absurd q (by decide)) (fun _ fa mk fi fc => ⟨fun _ => no (fun w => I w.1.2.2) _ _ _ _, fun q => absurd rfl q⟩)
  exact ⟨(n + 1).toNat, go _ i 0 fa' mk' fi' _ (by omega) (by omega) csKi_0⟩
end

/-! ClassifySort, the reference (X52): what is counted -/
noncomputable def csCt (n th m qu so : Int) (Th s pl : Int → Int) (x : Int) : Int := if x = 0 then n else if x = 1 then cntI (fun k => ¬ Th k = 0) m.toNat else if x = 2 then th else if x = 3 then qu else if x = 4 then csOp s else if x = 5 then (if so = 0 then 0 else 1) else if x = 6 then (if so = 0 then 0 else cntI (fun k => ¬ pl k = 0) n.toNat) else -2
section
variable {n m x : Int} {Th s pl : Int → Int}
theorem T52_ct1 {K : Int → Prop} (hm : 0 ≤ m ∧ m ≤ 40) (hp : K (cntI (fun k => ¬ Th k = 0) m.toNat)) : ∃ fu, wX52_count_51 K m Th fu 0 0 := by
  refine wl2 (fun d y i => wX52_count_51 K m Th d y i) (fun y i => (0 ≤ i ∧ i ≤ m) ∧ y = cntI (fun k => ¬ Th k = 0) i.toNat) (fun y i => (m - i).toNat) ?_ 0 0 ⟨by omega, rfl⟩
  rintro y i ⟨hi, hy⟩ d ih
  have cb := cntI_b (fun k => ¬ Th k = 0) i.toNat
  rw [wX52_count_51]
  refine ⟨fun z => ?_, fun z => ⟨by omega, fun e => ⟨by omega, fun _ e1 => ⟨by omega, fun _ e2 => ?_⟩⟩, fun e => ⟨by omega, fun _ e1 => ⟨by omega, fun _ e2 => ?_⟩⟩⟩⟩
  · have : i = m := by omega
    rw [hy, this]; exact hp
  · rw [e1, e2]
    exact ih _ _ ⟨by omega, by rw [cntI_f (p := fun k => ¬ Th k = 0) hi.1 (fun q => q e), hy]; omega⟩ (by omega)
  · rw [e1, e2]
    exact ih _ _ ⟨by omega, by rw [cntI_t (p := fun k => ¬ Th k = 0) hi.1 e, hy]⟩ (by omega)
theorem T52_ct6 {K : Int → Prop} {so : Int} (hn : 0 ≤ n ∧ n ≤ 20) (hp : K (if so = 0 then 0 else cntI (fun k => ¬ pl k = 0) n.toNat)) : ∃ fu, wX52_count_114 K n so pl fu 0 0 := by
  refine wl2 (fun d y i => wX52_count_114 K n so pl d y i) (fun y i => (0 ≤ i ∧ i ≤ n) ∧ y = if so = 0 then 0 else cntI (fun k => ¬ pl k = 0) i.toNat) (fun y i => (n - i).toNat) ?_ 0 0 ⟨by omega, by by_cases q : so = 0 <;> first | (rw [if_pos q]) | (rw [if_neg q]; rfl)⟩
  rintro y i ⟨hi, hy⟩ d ih
  have cb := cntI_b (fun k => ¬ pl k = 0) i.toNat
  have yb : 0 ≤ y ∧ y ≤ 20 := by
    rw [hy]
    by_cases q : so = 0
    · rw [if_pos q]; decide
    · rw [if_neg q]; omega
  rw [wX52_count_114]
  refine ⟨fun z => ?_, fun z => ⟨fun q => ⟨by omega, fun _ e1 => ⟨by omega, fun _ e2 => ?_⟩⟩, fun q => ⟨by omega, fun e => ⟨by omega, fun _ e1 => ⟨by omega, fun _ e2 => ?_⟩⟩, fun e => ⟨by omega, fun _ e1 => ⟨by omega, fun _ e2 => ?_⟩⟩⟩⟩⟩
  · have : i = n := by omega
    rw [hy, this]; exact hp
  · rw [e1, e2]
    refine ih _ _ ⟨by omega, ?_⟩ (by omega)
    rw [if_pos q] at hy
    rw [if_pos q, hy]; rfl
  · rw [e1, e2]
    refine ih _ _ ⟨by omega, ?_⟩ (by omega)
    rw [if_neg q] at hy
    rw [if_neg q, cntI_f (p := fun k => ¬ pl k = 0) hi.1 (fun w => w e), hy]; omega
  · rw [e1, e2]
    refine ih _ _ ⟨by omega, ?_⟩ (by omega)
    rw [if_neg q] at hy
    rw [if_neg q, cntI_t (p := fun k => ¬ pl k = 0) hi.1 e, hy]
theorem T52_count {post : Int → Prop} {th qu so : Int} (hn : 0 ≤ n ∧ n ≤ 20) (hm : 0 ≤ m ∧ m ≤ 40) (hp : post (csCt n th m qu so Th s pl x)) : wpX52_count post n th m qu so Th s pl x := by
  unfold csCt at hp
  unfold wpX52_count
  refine ⟨fun e => by rw [if_pos e] at hp; exact hp, fun e => ?_⟩
  rw [if_neg e] at hp
  refine ⟨fun e1 => by rw [if_pos e1] at hp; exact T52_ct1 hm hp, fun e1 => ?_⟩
  rw [if_neg e1] at hp
  refine ⟨fun e2 => by rw [if_pos e2] at hp; exact hp, fun e2 => ?_⟩
  rw [if_neg e2] at hp
  refine ⟨fun e3 => by rw [if_pos e3] at hp; exact hp, fun e3 => ?_⟩
  rw [if_neg e3] at hp
  refine ⟨fun e4 => by rw [if_pos e4] at hp; exact T52_openPairs hp, fun e4 => ?_⟩
  rw [if_neg e4] at hp
  refine ⟨fun e5 => ?_, fun e5 => ?_⟩
  · rw [if_pos e5] at hp
    exact ⟨fun q => by rw [if_pos q] at hp; exact hp, fun q => by rw [if_neg q] at hp; exact hp⟩
  rw [if_neg e5] at hp
  exact ⟨fun e6 => by rw [if_pos e6] at hp; exact T52_ct6 hn hp, fun e6 => by rw [if_neg e6] at hp; exact hp⟩
end

/-! ClassifySort, the reference (X52): who made what is certain -/
/-- no two of them make the same -/
def csDj (R : Int → Int) (l : List Int) : Prop := ∀ j k, j ∈ l → k ∈ l → R j = R k → j = k
section
variable {n m f g : Int} {L O R Th mk mk2 : Int → Int} {l : List Int}
theorem csRun_dj (hm : 0 ≤ m) : ∀ (d : Nat) (fa : Int → Int) (l : List Int) (r : Int) (fa' : Int → Int) (l' : List Int), csDj R l → (∀ k, k ∈ l → ¬ fa (R k) = 0) → csRun L O R Th m f g d fa l = (r, fa', l') → csDj R l'
  | 0, fa, l, r, fa', l', h, _, e => by
    unfold csRun at e
    have e2 : l = l' := congrArg (fun z => z.2.2) e
    rw [← e2]; exact h
  | d + 1, fa, l, r, fa', l', h, hf, e => by
    unfold csRun at e
    have same : (∀ q : Int, (q, fa, l) = (r, fa', l') → csDj R l') := fun q e3 => by
      have e2 : l = l' := congrArg (fun z => z.2.2) e3
      rw [← e2]; exact h
    by_cases w : ¬ fa g = 0 ∨ ¬ fa 20 = 0
    · rw [pif_t w] at e; exact same _ e
    rw [pif_f w] at e
    by_cases w2 : csNx L O R Th m fa = m
    · rw [pif_t w2] at e; exact same _ e
    rw [pif_f w2] at e
    by_cases w3 : (l.length : Int) = f
    · rw [pif_t w3] at e; exact same _ e
    rw [pif_f w3] at e
    have S := csNx_s (L := L) (O := O) (R := R) (Th := Th) (fa := fa) hm
    have F := S.2.1 (by omega)
    have ne : ∀ k, k ∈ l → ¬ R k = R (csNx L O R Th m fa) := fun k hk q => hf k hk (by rw [q]; exact F.2.2.2)
    refine csRun_dj hm d _ _ r fa' l' (fun j k hj hk q => ?_) (fun k hk => ?_) e
    · rcases List.mem_append.mp hj with a | a
      · rcases List.mem_append.mp hk with b | b
        · exact h j k a b q
        · rw [List.mem_singleton] at b
          rw [b] at q
          exact absurd q (ne j a)
      · rw [List.mem_singleton] at a
        rcases List.mem_append.mp hk with b | b
        · rw [a] at q
          exact absurd q.symm (ne k b)
        · rw [List.mem_singleton] at b
          rw [a, b]
    · rcases List.mem_append.mp hk with b | b
      · rw [updI_n (ne k b)]; exact hf k b
      · rw [List.mem_singleton] at b
        rw [b, updI_s]; decide
theorem csMk_u (hd : csDj R l) (h : csMk R mk l) (h2 : csMk R mk2 l) {c : Int} (hc : 0 ≤ c ∧ c ≤ 20) : mk c = mk2 c := by
  rcases h c hc.1 hc.2 with ⟨a, b⟩ | ⟨a, b⟩
  · rcases h2 c hc.1 hc.2 with ⟨a2, b2⟩ | ⟨a2, b2⟩
    · rw [a, a2]
    · exact absurd b2 (b _ a2)
  · rcases h2 c hc.1 hc.2 with ⟨a2, b2⟩ | ⟨a2, b2⟩
    · exact absurd b (b2 _ a)
    · exact hd _ _ a a2 (by rw [b, b2])
end

/-! ClassifySort, the reference (X52): what was needed (trace) -/
/-- what k needs -/
noncomputable def csN2 (O mk : Int → Int) (k : Int) (ne : Int → Int) : Int → Int := pif (O k < 0) ne (pif (mk (O k) < 0) ne (updI ne (mk (O k)) 1))
noncomputable def csN1 (L O mk : Int → Int) (k : Int) (ne : Int → Int) : Int → Int := csN2 O mk k (pif (mk (L k) < 0) ne (updI ne (mk (L k)) 1))
/-- from the t-th fired down to the first -/
noncomputable def csNe (L O mk fi : Int → Int) : Nat → (Int → Int) → Int → Int
  | 0, ne => ne
  | t + 1, ne => csNe L O mk fi t (pif (ne (fi t) = 0) ne (csN1 L O mk (fi t) ne))
section
variable {n m : Int} {L O R mk fi : Int → Int} {l : List Int}
theorem T52_t149 {K : Int → (Int → Int) → Prop} {t k : Int} {ne : Int → Int} (hn : 0 ≤ n ∧ n ≤ 20) (hm : 0 ≤ m ∧ m ≤ 40) (hA : csAx n L O R m) (hk : 0 ≤ k ∧ k < m) (ht : 0 ≤ t ∧ t < 40) (hb : ∀ c, 0 ≤ c → c ≤ 20 → -1 ≤ mk c ∧ mk c < m) (hp : K (t - 1) (csN2 O mk k ne)) : wX52_trace_149 K t k O mk ne := by
  have A := hA k hk.1 hk.2
  unfold csN2 at hp
  unfold wX52_trace_149
  refine ⟨by omega, fun e => ⟨by omega, fun _ e1 => ?_⟩, fun e => ?_⟩
  · rw [pif_t e] at hp; rw [e1]; exact hp
  rw [pif_f e] at hp
  have b := hb (O k) (by omega) (by omega)
  refine ⟨by omega, fun e2 => ⟨by omega, fun _ e1 => ?_⟩, fun e2 => ⟨by omega, fun _ e3 => ⟨by omega, fun _ e1 => ?_⟩⟩⟩
  · rw [pif_t e2] at hp; rw [e1]; exact hp
  · rw [pif_f e2] at hp; rw [e1, e3]; exact hp
theorem T52_t92 {K : (Int → Int) → Prop} (hn : 0 ≤ n ∧ n ≤ 20) (hm : 0 ≤ m ∧ m ≤ 40) (hA : csAx n L O R m) (hb : ∀ c, 0 ≤ c → c ≤ 20 → -1 ≤ mk c ∧ mk c < m) : ∀ (t : Nat) (ne : Int → Int), (t : Int) ≤ 40 → (∀ j : Nat, j < t → 0 ≤ fi j ∧ fi j < m) → K (csNe L O mk fi t ne) → wX52_trace_92 K L O mk fi (t + 1) ((t : Int) - 1) ne
  | 0, ne, _, _, hp => by
    rw [wX52_trace_92]
    exact ⟨fun _ => hp, fun e => absurd (by decide) e⟩
  | t + 1, ne, ht, hf, hp => by
    rw [wX52_trace_92]
    have et : ((t + 1 : Nat) : Int) - 1 = (t : Int) := by omega
    rw [et]
    have F := hf t (by omega)
    have A := hA (fi t) F.1 F.2
    have B := hb (L (fi t)) (by omega) (by omega)
    unfold csNe at hp
    refine ⟨fun e => absurd e (by omega), fun e => ⟨by omega, fun k ek => ?_⟩⟩
    rw [ek]
    refine ⟨by omega, fun e1 => ⟨by omega, fun _ e2 => ?_⟩, fun e1 => ⟨by omega, fun e2 => ?_, fun e2 => ⟨by omega, fun _ e3 => ?_⟩⟩⟩
    · rw [e2, show (t : Int) + (-1) = (t : Int) - 1 by omega]
      rw [pif_t e1] at hp
      exact T52_t92 hn hm hA hb t _ (by omega) (fun j hj => hf j (by omega)) hp
    · rw [pif_f e1] at hp
      unfold csN1 at hp
      rw [pif_t e2] at hp
      exact T52_t149 hn hm hA F ⟨by omega, by omega⟩ hb (T52_t92 hn hm hA hb t _ (by omega) (fun j hj => hf j (by omega)) hp)
    · rw [pif_f e1] at hp
      unfold csN1 at hp
      rw [pif_f e2] at hp
      rw [e3]
      exact T52_t149 hn hm hA F ⟨by omega, by omega⟩ hb (T52_t92 hn hm hA hb t _ (by omega) (fun j hj => hf j (by omega)) hp)
end

/-! ClassifySort, the reference (X52): trace -/
section
variable {n m f a b i : Int} {L O R Th fa mk fi ne : Int → Int}
theorem T52_t46 {K : (Int → Int) → Prop} (hp : ∀ ne', (∀ j, 0 ≤ j → j < 40 → ne' j = 0) → K ne') : ∃ fu, wX52_trace_46 K fu 0 ne := by
  refine zl2 (fun d i ne => wX52_trace_46 K d i ne) (fun i ne => 0 ≤ i ∧ ∀ c, 0 ≤ c → c < i → ne c = 0) 40 ?_ ⟨by decide, fun c p q => by omega⟩ (by decide)
  rintro d i ne ⟨i0, hi⟩ hN ih
  rw [wX52_trace_46]
  refine ⟨fun z => hp _ (fun j j0 j1 => hi j j0 (by omega)), fun z => ⟨by omega, fun _ e1 => ⟨by omega, fun _ e2 => ?_⟩⟩⟩
  rw [e1, e2]
  refine ih _ (by omega) ⟨by omega, fun c p q => ?_⟩
  by_cases w : c = i
  · rw [w, updI_s]
  · rw [updI_n w]; exact hi c p (by omega)
theorem T52_t204 {K : Int → Prop} {Q : Prop} {N : Nat} (hN : N ≤ 40) (hi : zR i) (hf : ∀ j : Int, 0 ≤ j → j < N → 0 ≤ fi j ∧ fi j < 40) (h1 : csKt (fun t => ¬ ne (fi t) = 0) N i = -6 → Q) (h0 : ∀ t : Int, 0 ≤ t → t < N → csKt (fun t => ¬ ne (fi t) = 0) N i = t → K t) : ∃ fu, wX52_trace_204 K Q i fi N ne fu i 0 := by
  have hj0 : (0 : Int) ≤ 0 ∧ (0 : Int) ≤ N := ⟨by decide, by omega⟩
  refine wl2 (fun d y t => wX52_trace_204 K Q i fi N ne d y t) (fun y t => (0 ≤ t ∧ t ≤ N) ∧ csKi (fun t => ¬ ne (fi t) = 0) i y t) (fun y t => (N - t).toNat) ?_ i 0 ⟨hj0, csKi_0⟩
  rintro y t ⟨ht, X⟩ d ih
  rw [wX52_trace_204]
  refine ⟨fun z => h1 (csKi_n X z), fun z => ⟨fun e => h1 (csKt_neg e), fun e => ?_⟩⟩
  have B := csKi_b X ⟨ht.1, by omega⟩ ⟨by omega, hi.2⟩
  refine ⟨by omega, hf t ht.1 (by omega), fun v ev => ⟨fun e1 => ?_, fun e1 => ⟨fun e2 => h0 t ht.1 (by omega) (csKi_y X ⟨ht.1, by omega⟩ (by rw [← ev]; exact e1) e2), fun e2 => ?_⟩⟩⟩
  · unfold wX52_trace_249
    refine ⟨fun _ => ⟨B.1, fun _ e3 => ⟨by omega, fun _ e4 => ?_⟩⟩, fun q => absurd e1 q⟩
    rw [e3, e4]
    exact ih _ _ ⟨by omega, csKi_f X ht.1 (fun w => w (by rw [← ev]; exact e1))⟩ (by omega)
  · unfold wX52_trace_249
    refine ⟨fun q => absurd q e1, fun _ => ⟨B.2, fun _ e3 => ⟨by omega, fun _ e4 => ?_⟩⟩⟩
    rw [e3, e4]
    exact ih _ _ ⟨by omega, csKi_t X ht.1 (by rw [← ev]; exact e1) e2⟩ (by omega)
theorem csRun_ln {g : Int} : ∀ (d : Nat) (fa : Int → Int) (l : List Int), (csRun L O R Th m f g d fa l).2.2.length ≤ l.length + d
  | 0, fa, l => by unfold csRun; exact Nat.le_refl _
  | d + 1, fa, l => by
    unfold csRun
    by_cases w : ¬ fa g = 0 ∨ ¬ fa 20 = 0
    · rw [pif_t w]; show l.length ≤ l.length + (d + 1); omega
    rw [pif_f w]
    by_cases w2 : csNx L O R Th m fa = m
    · rw [pif_t w2]; show l.length ≤ l.length + (d + 1); omega
    rw [pif_f w2]
    by_cases w3 : (l.length : Int) = f
    · rw [pif_t w3]; show l.length ≤ l.length + (d + 1); omega
    rw [pif_f w3]
    have := csRun_ln (g := g) d (updI fa (R (csNx L O R Th m fa)) 1) (l ++ [csNx L O R Th m fa])
    rw [List.length_append, List.length_singleton] at this
    omega
/-- the i-th needed one of N fired -/
noncomputable def csTa (ne fi : Int → Int) (N : Nat) (i : Int) : Int := pif (csKt (fun t => ¬ ne (fi t) = 0) N i = -6) (-6) (fi (csKt (fun t => ¬ ne (fi t) = 0) N i))
theorem T52_trace {post : Int → (Int → Int) → (Int → Int) → (Int → Int) → Int → (Int → Int) → Prop} {fc : Int} (hn : 0 ≤ n ∧ n ≤ 20) (hm : 0 ≤ m ∧ m ≤ 40) (hA : csAx n L O R m) (hi : zR i) (h1 : ¬ ((0 ≤ a ∧ a < n) ∧ csGk n b) → post (-1) fa mk fi fc ne) (h6 : (0 ≤ a ∧ a < n) ∧ csGk n b → (¬ (csAn L O R Th m f (csGl b) (csOne a)).1 = 1 ∨ (csAn L O R Th m f (csGl b) (csOne a)).2.2 = []) → ∀ fa' mk' fi' fc' ne', post (-6) fa' mk' fi' fc' ne') (h0 : (0 ≤ a ∧ a < n) ∧ csGk n b → (csAn L O R Th m f (csGl b) (csOne a)).1 = 1 → ∀ l', (csAn L O R Th m f (csGl b) (csOne a)).2.2 = l' → ¬ l' = [] → ∀ mk' fi', vtQ fi' 0 l' → csMk R mk' l' → (∀ k, k ∈ l' → 0 ≤ k ∧ k < m) → ∀ ne0, (∀ j, 0 ≤ j → j < 40 → ne0 j = 0) → ∀ fa' ne', post (csTa (csNe L O mk' fi' l'.length (updI ne0 (fi' ((l'.length : Int) - 1)) 1)) fi' l'.length i) fa' mk' fi' l'.length ne') : wpX52_trace post n m f L O R Th fa mk fi fc ne a b i := by
  unfold wpX52_trace
  refine T52_goalOf (fun G => T52_isClassB (fun C => ⟨fun _ => ?_, fun q => absurd (by unfold csGk at G; unfold csGl; by_cases e : b = -1 <;> first | (rw [if_pos e]; omega) | (rw [if_neg e]; omega)) q⟩) (fun C => h1 (fun w => C w.1))) (fun G => T52_isClassB (fun _ => ⟨fun q => absurd q (by decide), fun _ => h1 (fun w => G w.2)⟩) (fun C => h1 (fun w => C w.1)))
  have g20 : 0 ≤ csGl b ∧ csGl b ≤ 20 := by
    unfold csGk at G
    unfold csGl
    by_cases e : b = -1
    · rw [if_pos e]; decide
    · rw [if_neg e]; omega
  have H0 := h0 ⟨C, G⟩
  have H6 := h6 ⟨C, G⟩
  have ln := csRun_ln (L := L) (O := O) (R := R) (Th := Th) (m := m) (f := f) (g := csGl b) 22 (csOne a) []
  refine T52_alone hn hm hA g20 (fun r l' er el fa' mk' fi' hq hk hb => ⟨fun e => ⟨fun e0 => ?_, fun e0 => T52_t46 (fun ne0 hz => ?_)⟩, fun e => H6 (Or.inl (fun w => e (er.symm.trans w))) _ _ _ _ _⟩)
  · have : l' = [] := List.length_eq_zero_iff.mp (by omega)
    exact H6 (Or.inr (el.trans this)) _ _ _ _ _
  have ne0' : ¬ l' = [] := fun w => e0 (by rw [w]; rfl)
  have HH := H0 (er.trans e) l' el ne0' mk' fi' hq hk hb ne0 hz
  have l22 : l'.length ≤ 22 := by
    have el2 : (csRun L O R Th m f (csGl b) 22 (csOne a) []).2.2 = l' := el
    rw [el2] at ln
    simpa using ln
  have lf : ∀ j : Nat, j < l'.length → 0 ≤ fi' j ∧ fi' j < m := fun j hj => by
    have q := hq j hj
    rw [Int.zero_add] at q
    rw [q, List.getD_eq_getElem?_getD, List.getElem?_eq_getElem hj]
    exact hb _ (List.getElem_mem hj)
  have lf2 : ∀ j : Int, 0 ≤ j → j < l'.length → 0 ≤ fi' j ∧ fi' j < m := fun j j0 j1 => by
    have := lf j.toNat (by omega)
    rw [show ((j.toNat : Nat) : Int) = j by omega] at this
    exact this
  have lp : 0 < (l'.length : Int) := by omega
  have lb := lf2 ((l'.length : Int) - 1) (by omega) (by omega)
  have mb : ∀ c, 0 ≤ c → c ≤ 20 → -1 ≤ mk' c ∧ mk' c < m := fun c c0 c1 => by
    rcases hk c c0 c1 with ⟨q, _⟩ | ⟨q, _⟩
    · omega
    · have := hb _ q; omega
  refine ⟨by omega, by omega, fun ne1 e1 => ⟨by omega, fun t et => ⟨l'.length + 1, ?_⟩⟩⟩
  rw [et, e1]
  refine T52_t92 hn hm hA mb l'.length _ (by omega) lf ?_
  refine T52_t204 (by omega) hi (fun j j0 j1 => by have := lf2 j j0 j1; omega) (fun e6 => ?_) (fun t t0 t1 e6 => ⟨by omega, ?_⟩)
  · have := HH fa' (csNe L O mk' fi' l'.length (updI ne0 (fi' ((l'.length : Int) - 1)) 1))
    unfold csTa at this
    rw [pif_t e6] at this
    exact this
  · have := HH fa' (csNe L O mk' fi' l'.length (updI ne0 (fi' ((l'.length : Int) - 1)) 1))
    unfold csTa at this
    rw [pif_f (by rw [e6]; omega), e6] at this
    exact this
end

/-! ClassifySort, the reference (X52): what is outside stays unknown -/
section
variable {n m f a b x one v : Int} {L O R Th s : Int → Int}
theorem csZ_cl (h : csZ n s) : csZ n (csCl n L O R Th m s) := fun y hy => by
  show pif _ _ _ = _
  rw [pif_f hy]
  exact h y hy
theorem csZ_n (h : csZ n s) : csZ (n + 1) s := fun y hy => h y (fun w => hy ⟨⟨w.1.1, by have := w.1.2; omega⟩, by have q := w.2; unfold csH at q ⊢; omega⟩)
theorem csZ_u (h : csZ n s) (ha : 0 ≤ a ∧ a < n) (hn : n ≤ 20) (hb : csH n b) : csZ n (updI s (21 * a + b) v) := fun y hy => by
  have b20 : 0 ≤ b ∧ b ≤ 20 := by unfold csH at hb; omega
  by_cases e : y = 21 * a + b
  · refine absurd ⟨⟨by omega, by omega⟩, ?_⟩ hy
    rw [show y % 21 = b by omega]; exact hb
  · rw [updI_n e]; exact h y hy
theorem csZ_fg (h : csZ n s) : csZ n (csFg n L O R Th m x one s) := fun y hy => by
  show pif _ _ _ = _
  by_cases w : (0 ≤ y ∧ y / 21 < n) ∧ csTc L O R Th m (y / 21) x ∧ (s y = one ∨ s y = 2)
  · rw [pif_t w]
  · rw [pif_f w]; exact h y hy
theorem csZ_fo (h : csZ n s) : csZ n (csFo s) := fun y hy => by
  unfold csFo
  by_cases w : 0 ≤ y ∧ y < 420 ∧ s y = 2
  · rw [if_pos w]
  · rw [if_neg w]; exact h y hy
theorem csZ_lk (h : csZ n s) (ha : 0 ≤ a ∧ a < n) (hn : n ≤ 20) (hb : csH n b) : csZ n (csLk n L O R Th m f a b s) := by
  unfold csLk
  by_cases w : s (21 * a + b) = 3
  · rw [pif_t w]; exact csZ_cl (csZ_u h ha hn hb)
  · rw [pif_f w]; exact h
end

/-! masks: sets of numbers below 32 (plain) -/
def mS (x : Int) (P : Int → Prop) : Prop := zR x ∧ ∀ k, 0 ≤ k → k < 32 → (zb x k.toNat = 1 ↔ P k)
section
variable {x y i j : Int} {P Q : Int → Prop}
theorem mS_c (h : mS x P) (e : ∀ k, 0 ≤ k → k < 32 → (P k ↔ Q k)) : mS x Q := ⟨h.1, fun k a b => (h.2 k a b).trans (e k a b)⟩
theorem mS_or (h : mS x P) (g : mS y Q) : mS (zor x y) (fun k => P k ∨ Q k) := ⟨zr_or32 _ _, fun k a b => by rw [zb_or32 h.1 g.1 (by omega), h.2 k a b, g.2 k a b]⟩
theorem mS_and (h : mS x P) (g : mS y Q) : mS (zand x y) (fun k => P k ∧ Q k) := ⟨zr_and32 _ _, fun k a b => by rw [zb_and32 h.1 g.1 (by omega), h.2 k a b, g.2 k a b]⟩
theorem mS_not (h : mS x P) : mS (-x - 1) (fun k => ¬ P k) := ⟨by have := h.1; omega, fun k a b => by rw [zb_not, h.2 k a b]⟩
theorem mS_0 : mS 0 (fun _ => False) := ⟨by decide, fun k _ _ => by rw [zb_zero]; simp⟩
theorem pw31 {j : Int} (h : 0 ≤ j ∧ j < 31) : 0 < (2 : Int) ^ j.toNat ∧ (2 : Int) ^ j.toNat < 2147483648 := by
  have p : ∀ t : Nat, t < 31 → 0 < (2 : Int) ^ t ∧ (2 : Int) ^ t < 2147483648 := by decide
  exact p j.toNat (by omega)
theorem mS_one (h : 0 ≤ j ∧ j < 31) : mS (2 ^ j.toNat) (fun k => k = j) := by
  have p := pw31 h
  refine ⟨⟨by omega, p.2⟩, fun k a b => ?_⟩
  rw [zb_pow]
  show k.toNat = j.toNat ↔ k = j
  omega
theorem mS_low (h : 0 ≤ j ∧ j < 31) : mS (2 ^ j.toNat - 1) (fun k => k < j) := by
  have p := pw31 h
  refine ⟨⟨by omega, by omega⟩, fun k a b => ?_⟩
  rw [zb_ones]
  show k.toNat < j.toNat ↔ k < j
  omega
theorem mS_z (h : mS x P) : x = 0 ↔ ∀ k, 0 ≤ k → k < 32 → ¬ P k := by
  constructor
  · intro e k a b p
    have := (h.2 k a b).mpr p
    rw [e, zb_zero] at this
    exact absurd this (by decide)
  · intro H
    refine zb_032 h.1 (fun k hk => zb_n0 (fun w => H k (by omega) (by omega) ((h.2 k (by omega) (by omega)).mp ?_)))
    rw [Int.toNat_natCast]; exact w
theorem mS_u (h : mS x P) (g : mS y P) : x = y := zb_ext32 h.1 g.1 (fun k hk => by
  have a := h.2 k (by omega) (by omega)
  have b := g.2 k (by omega) (by omega)
  rw [Int.toNat_natCast] at a b
  exact a.trans b.symm)
/-- a set without what another holds -/
theorem mS_sub (h : mS x P) (g : mS y Q) : zand x (-y - 1) = 0 ↔ ∀ k, 0 ≤ k → k < 32 → P k → Q k :=
  (mS_z (mS_and h (mS_not g))).trans ⟨fun H k a b p => Classical.byContradiction (fun q => H k a b ⟨p, q⟩), fun H k a b w => w.2 (H k a b w.1)⟩
theorem mS_dj (h : mS x P) (g : mS y Q) : zand x y = 0 ↔ ∀ k, 0 ≤ k → k < 32 → ¬ (P k ∧ Q k) := mS_z (mS_and h g)
theorem mS_pos (h : mS x P) (n : ¬ P 31) : 0 ≤ x := by
  have a := h.1
  have b : ¬ zb x 31 = 1 := fun w => n ((h.2 31 (by decide) (by decide)).mp w)
  have c := zb_n0 b
  have d : x / 2147483648 % 2 = 0 := c
  omega
theorem mS_bit (h : mS x P) {k : Int} (a : 0 ≤ k) (b : k < 32) : x / 2 ^ k.toNat % 2 = 1 ↔ P k := h.2 k a b
/-- the least one goes -/
theorem mS_rest (h : mS x P) (n : ¬ P 31) (hx : ¬ x = 0) : ∃ t : Int, (0 ≤ t ∧ t < 32) ∧ P t ∧ (∀ j, 0 ≤ j → j < t → ¬ P j) ∧ mS (zand x (x - 1)) (fun k => P k ∧ k ≠ t) := by
  have p := mS_pos h n
  have hr := h.1
  have hz : ∃ k, k < 32 ∧ zb x k = 1 := Classical.byContradiction (fun q => hx (zb_032 h.1 (fun k hk => zb_n0 (fun w => q ⟨k, hk, w⟩))))
  obtain ⟨t, ht, h1, h2, q, e⟩ := zb_low hz
  have lo : ∀ j : Int, 0 ≤ j → j < t → ¬ P j := fun j a b w => by
    have w1 := (h.2 j a (by omega)).mpr w
    have w2 := h2 j.toNat (by omega)
    omega
  refine ⟨t, by omega, (h.2 t (by omega) (by omega)).mp (by rw [Int.toNat_natCast]; exact h1), lo, zr_and32 _ _, fun k a b => ?_⟩
  rw [zb_and32 h.1 ⟨by omega, by omega⟩ (by omega), zb_dec e, h.2 k a b]
  constructor
  · rintro ⟨w, v | v⟩
    · exact absurd w (lo k a (by omega))
    · exact ⟨w, by omega⟩
  · rintro ⟨w, v⟩
    refine ⟨w, Or.inr ⟨?_, w⟩⟩
    by_cases c : k < t
    · exact absurd w (lo k a c)
    · omega
end

/-! masks, counted (plain) -/
section
variable {x y i j : Int} {P Q : Int → Prop}
theorem cntI_mono {p : Int → Prop} {a b : Nat} (h : a ≤ b) : cntI p a ≤ cntI p b := by
  have e := cntI_add (p := p) a (b - a)
  rw [show a + (b - a) = b by omega] at e
  have := cntI_b (fun i => p (a + i)) (b - a)
  omega
theorem cntI_s (p : Int → Prop) (n : Nat) : (p n → cntI p (n + 1) = cntI p n + 1) ∧ (¬ p n → cntI p (n + 1) = cntI p n) := by
  have a := cntI_t (p := p) (n := (n : Int)) (by omega)
  have b := cntI_f (p := p) (n := (n : Int)) (by omega)
  rw [show ((n : Int) + 1).toNat = n + 1 by omega, show ((n : Int)).toNat = n by omega] at a b
  exact ⟨a, b⟩
theorem cntI_lt {p q : Int → Prop} : ∀ {N : Nat}, (∀ i : Int, 0 ≤ i → i < N → p i → q i) → (cntI p N ≤ cntI q N) ∧ ((∃ i : Int, (0 ≤ i ∧ i < N) ∧ q i ∧ ¬ p i) → cntI p N < cntI q N)
  | 0, _ => ⟨Int.le_refl _, fun ⟨i, h, _⟩ => by omega⟩
  | N + 1, h => by
    have ih := cntI_lt (p := p) (q := q) (N := N) (fun i a b => h i a (by omega))
    have sp := cntI_s p N
    have sq := cntI_s q N
    have hN := h N (by omega) (by omega)
    refine ⟨?_, fun ⟨i, hi, qi, pi⟩ => ?_⟩
    · by_cases w : p (N : Int)
      · rw [sp.1 w, sq.1 (hN w)]; omega
      · rw [sp.2 w]
        by_cases v : q (N : Int)
        · rw [sq.1 v]; omega
        · rw [sq.2 v]; exact ih.1
    · by_cases e : i = N
      · rw [e] at qi pi
        rw [sp.2 pi, sq.1 qi]; omega
      · have l := ih.2 ⟨i, by omega, qi, pi⟩
        by_cases w : p (N : Int)
        · rw [sp.1 w, sq.1 (hN w)]; omega
        · rw [sp.2 w]
          by_cases v : q (N : Int)
          · rw [sq.1 v]; omega
          · rw [sq.2 v]; exact l
theorem mS_miss (h : mS x P) (g : mS y Q) (e : ∀ k, 0 ≤ k → k < 32 → P k → Q k) (n : ¬ x = y) : cntI (fun k => ¬ Q k) 32 < cntI (fun k => ¬ P k) 32 := by
  refine (cntI_lt (fun k a b w v => w (e k a (by omega) v))).2 (Classical.byContradiction (fun H => n (mS_u h (mS_c g (fun k a b => ⟨fun q => Classical.byContradiction (fun p => H ⟨k, ⟨a, by omega⟩, p, fun w => w q⟩), e k a b⟩)))))
theorem mS_pop (h : mS x P) : cntI (fun i => zb x i.toNat = 1) 32 = cntI P 32 := cntI_c (fun i a b => h.2 i a (by omega))
theorem cntI_one {j : Int} {N : Nat} (h : 0 ≤ j ∧ j < N) : cntI (fun c => c = j) N = 1 := by
  have z : cntI (fun _ => False) N = 0 := cntI_0 (fun _ _ _ w => w)
  have := cntI_u (p := fun _ => False) (q := fun c => c = j) h.1 (fun w => w) rfl (fun c hc => ⟨fun w => w.elim, fun w => absurd w hc⟩) N
  rw [if_pos h.2] at this
  omega
theorem cntI_two {j k : Int} {N : Nat} (h : 0 ≤ j ∧ j < N) (g : 0 ≤ k ∧ k < N) (n : j ≠ k) : cntI (fun c => c = j ∨ c = k) N = 2 := by
  have := cntI_u (p := fun c => c = j) (q := fun c => c = j ∨ c = k) g.1 (fun w => n w.symm) (Or.inr rfl) (fun c hc => ⟨fun w => Or.inl w, fun w => w.elim id (fun v => absurd v hc)⟩) N
  rw [if_pos g.2, cntI_one h] at this
  exact this
/-- the i-th of a mask that holds what is below N -/
theorem csKt_e {N : Nat} (hN : N ≤ 32) (e : ∀ k, 0 ≤ k → k < 32 → (P k ↔ k < N ∧ Q k)) : csKt P 32 i = csKt Q N i := by
  have ce : ∀ d : Int, 0 ≤ d → d ≤ N → cntI P d.toNat = cntI Q d.toNat := fun d a b => cntI_c (fun k u v => (e k u (by omega)).trans ⟨fun w => w.2, fun w => ⟨by omega, w⟩⟩)
  have S := fstI_s (csKp Q i) N
  by_cases F : fstI (csKp Q i) N < N
  · have K := S.2.1 F
    rw [csKt_y ⟨S.1.1, F⟩ K S.2.2]
    refine csKt_y ⟨S.1.1, by omega⟩ ⟨(e _ S.1.1 (by omega)).mpr ⟨F, K.1⟩, by rw [ce _ S.1.1 (by omega)]; exact K.2⟩ (fun j a b w => S.2.2 j a b ⟨((e j a (by omega)).mp w.1).2, by rw [← ce j a (by omega)]; exact w.2⟩)
  · have no : ∀ j : Int, 0 ≤ j → j < N → ¬ csKp Q i j := fun j a b => S.2.2 j a (by omega)
    rw [csKt_n no]
    exact csKt_n (fun j a b w => by
      have p := (e j a (by omega)).mp w.1
      exact no j a p.1 ⟨p.2, by rw [← ce j a (by omega)]; exact w.2⟩)
end

/-! ClassifySort, the component (room CS): its shape; small methods -/
/-- labels: 0 this, 1 the list of axioms, 2 the reasoner, 3 things, 4 above, 5 not, 6 open, 7 under, 8 fired -/
def swF (kd an : Nat → Nat) (mX29_axioms mX29_reasoner mX29_things mX29_above mX29_not mX29_open mX29_under mX30_fired mX30_this_0 : Nat → Option Nat) (A : Nat → Nat) : Prop :=
  (mX29_axioms (A 0) = some (A 1) ∧ mX29_reasoner (A 0) = some (A 2) ∧ mX29_things (A 0) = some (A 3) ∧ mX29_above (A 0) = some (A 4) ∧ mX29_not (A 0) = some (A 5) ∧ mX29_open (A 0) = some (A 6) ∧ mX29_under (A 0) = some (A 7) ∧ mX30_fired (A 2) = some (A 8) ∧ mX30_this_0 (A 2) = some (A 0)) ∧
  (kd (A 0) = 1 ∧ kd (A 1) = 4 ∧ kd (A 2) = 2) ∧ (∀ i, 3 ≤ i → i ≤ 8 → kd (A i) = 5) ∧ (an (A 3) = 8 ∧ an (A 4) = 21 ∧ an (A 5) = 21 ∧ an (A 6) = 21 ∧ an (A 7) = 21 ∧ an (A 8) = 20) ∧ ∀ i j, 3 ≤ i → i ≤ 8 → 3 ≤ j → j ≤ 8 → i ≠ j → A i ≠ A j
/-- axioms -/
def swA (kd an : Nat → Nat) (ar : Nat → Int → Option Nat) (mX61_left mX61_right mX61_gone : Nat → Int) (mJ2_elementData : Nat → Option Nat) (mJ2_size : Nat → Int) (s0 : Nat) (l : Nat) (L O R Th : Int → Int) (n m : Int) (e : Nat) (f : Int → Nat) : Prop :=
  lsOK kd an ar mJ2_elementData mJ2_size 8 s0 l e m f ∧ (∀ k, 0 ≤ k → k < m → kd (f k) = 3 ∧ mX61_right (f k) = R k ∧ (mX61_gone (f k) = 0 ↔ ¬ Th k = 0) ∧ mS (mX61_left (f k)) (fun c => c = L k ∨ (0 ≤ O k ∧ c = O k)) ∧ L k ≠ O k) ∧ (∀ j k, 0 ≤ j → j < m → 0 ≤ k → k < m → j ≠ k → f j ≠ f k) ∧ csAx n L O R m ∧ (0 ≤ m ∧ m ≤ 40) ∧ (0 ≤ n ∧ n ≤ 20)
/-- what is known, as masks -/
def swS (n : Int) (s ab no op un : Int → Int) : Prop :=
  (∀ a, 0 ≤ a → a ≤ 20 → mS (ab a) (fun b => csH n a ∧ csH n b ∧ csB s a b)) ∧ (∀ a, 0 ≤ a → a < 20 → mS (no a) (fun b => a < n ∧ csH n b ∧ s (21 * a + b) = 0)) ∧ (∀ a, 0 ≤ a → a < 20 → mS (op a) (fun b => a < n ∧ csH n b ∧ s (21 * a + b) = 2)) ∧
  ∀ b, 0 ≤ b → b ≤ 20 → mS (un b) (fun c => csH n c ∧ csH n b ∧ csB s c b)
/-- only some rows of numbers change -/
def swE (ai ai' : Nat → Int → Int) (W : Nat → Prop) : Prop := ∀ a, ¬ W a → ai' a = ai a
section
variable {kd : Nat → Nat} {an : Nat → Nat} {ai : Nat → Int → Int} {al : Nat → Int → Int} {ar : Nat → Int → Option Nat} {mX29_axioms : Nat → Option Nat} {mX29_reasoner : Nat → Option Nat} {mX29_classes : Nat → Int} {mX29_things : Nat → Option Nat} {mX29_thingCount : Nat → Int} {mX29_fuel : Nat → Int} {mX29_above : Nat → Option Nat} {mX29_not : Nat → Option Nat} {mX29_open : Nat → Option Nat} {mX29_under : Nat → Option Nat} {mX29_sorted : Nat → Int} {mX29_placed : Nat → Int} {mX29_empties : Nat → Int} {mX29_asked : Nat → Int} {mX30_fired : Nat → Option Nat} {mX30_many : Nat → Int} {mX30_facts : Nat → Int} {mX30_this_0 : Nat → Option Nat} {mX61_left : Nat → Int} {mX61_right : Nat → Int} {mX61_gone : Nat → Int} {mJ1_modCount : Nat → Int} {mJ2_elementData : Nat → Option Nat} {mJ2_size : Nat → Int} {sa : Nat → Nat} {A : Nat → Nat} {L O R Th s fa : Int → Int} {n m f g x y i k c a b : Int} {e : Nat} {fx : Int → Nat} {P Q : Int → Prop}
theorem csH_b (hn : n ≤ 20) (h : csH n a) : 0 ≤ a ∧ a ≤ 20 := by unfold csH at h; omega
theorem csH_l (h0 : 0 ≤ a) (h1 : a < n) : csH n a := Or.inl ⟨h0, h1⟩
theorem csH_20 : csH n 20 := Or.inr rfl
theorem csH_d (hb : csH n b) (hn : n ≤ 20) : (21 * a + b) / 21 = a ∧ (21 * a + b) % 21 = b := by unfold csH at hb; omega
theorem CCS_has {post : Int → Prop} (h : mS x P) (h0 : 0 ≤ k) (h1 : k < 32) (hp : P k → post 1) (hq : ¬ P k → post 0) : wpCS_X29_has post x k := by
  unfold wpCS_X29_has
  exact ⟨⟨h0, h1⟩, fun z => hp ((h.2 k h0 h1).mp z), fun z => hq (fun w => z ((h.2 k h0 h1).mpr w))⟩
theorem CCS_hasB {X Y : Prop} (h : mS x P) (h0 : 0 ≤ k) (h1 : k < 32) (hp : P k → Y) (hq : ¬ P k → X) : wpCS_X29_has (fun r => (r = 0 → X) ∧ (¬ r = 0 → Y)) x k :=
  CCS_has h h0 h1 (fun w => ⟨fun z => absurd z (by decide), fun _ => hp w⟩) (fun w => ⟨fun _ => hq w, fun z => absurd rfl z⟩)
theorem CCS_pop {post : Int → Prop} (h : mS x P) (hp : post (cntI P 32)) : wpCS_J3_bitCount post x := by
  unfold wpCS_J3_bitCount
  rw [← mS_pop h] at hp
  exact zpop32 hp
theorem CCS_ntz {post : Int → Prop} (h : mS x P) (hx : ¬ x = 0) (hp : ∀ t : Int, 0 ≤ t → t < 32 → P t → (∀ j, 0 ≤ j → j < t → ¬ P j) → post t) : wpCS_J3_numberOfTrailingZeros post x :=
  CCS_ntz32 h.1 hx (fun t ht z1 z2 => hp t (by omega) (by omega) ((h.2 t (by omega) (by omega)).mp (by rw [Int.toNat_natCast]; exact z1)) (fun j a b w => by
    have w1 := (h.2 j a (by omega)).mpr w
    have w2 := z2 j.toNat (by omega)
    omega))
theorem CCS_of {post : Int → Prop} (h : mS x P) (h31 : ¬ P 31) (hi : zR i) (hp : post (csKt P 32 i)) : wpCS_X29_of post x i := by
  unfold wpCS_X29_of
  refine ⟨fun i0 => ?_, fun i0 => by rw [csKt_neg (by omega)] at hp; exact hp⟩
  refine wl2 (fun d x2 x3 => wCS_X29_of_11 _ i d x2 x3) (fun x2 x3 => (0 ≤ x3 ∧ x3 ≤ i) ∧ ∃ B : Int, (0 ≤ B ∧ B ≤ 32) ∧ cntI P B.toNat = x3 ∧ mS x2 (fun k => P k ∧ B ≤ k)) (fun _ x3 => (i - x3).toNat) ?_ x 0 ⟨by omega, 0, by decide, rfl, mS_c h (fun k a _ => ⟨fun w => ⟨w, a⟩, fun w => w.1⟩)⟩
  rintro x2 x3 ⟨h3, B, hB, eB, hm⟩ d ih
  have lt : ∀ j : Int, 0 ≤ j → j < B → P j → cntI P j.toNat < x3 := fun j a b w => by
    have q := cntI_mono (p := P) (a := (j + 1).toNat) (b := B.toNat) (by omega)
    rw [cntI_t a w] at q
    omega
  have none : x2 = 0 → post (-6) := fun z => by
    have no := (mS_z hm).mp z
    rw [csKt_n (fun j a b w => ?_)] at hp
    · exact hp
    · by_cases c : j < B
      · have := lt j a c w.1; have := w.2; omega
      · exact no j a (by omega) ⟨w.1, by omega⟩
  rw [wCS_X29_of_11]
  refine ⟨fun le => ⟨none, fun nz => ?_⟩, fun le => ⟨fun z => ⟨none, fun nz => absurd z nz⟩, fun nz _ e4 => ⟨by omega, fun _ e5 => ?_⟩⟩⟩
  · refine CCS_ntz hm nz (fun t t0 t1 ht hl => ?_)
    have up := cntI_up (p := P) (n := B.toNat) (m := t.toNat) (by omega) (fun j a b w => hl j (by omega) (by omega) ⟨w, by omega⟩)
    have ek : csKt P 32 i = t := csKt_y ⟨t0, by omega⟩ ⟨ht.1, by omega⟩ (fun j a b w => by
      by_cases c : j < B
      · have := lt j a c w.1; have := w.2; omega
      · exact hl j a b ⟨w.1, by omega⟩)
    rw [ek] at hp
    exact hp
  · subst e4 e5
    obtain ⟨t, ht, pt, lt2, hm2⟩ := mS_rest hm (fun w => h31 w.1) nz
    refine ih _ _ ⟨by omega, t + 1, by omega, ?_, mS_c hm2 (fun k a b => ⟨fun w => ⟨w.1.1, ?_⟩, fun w => ⟨⟨w.1, by omega⟩, by omega⟩⟩)⟩ (by omega)
    · have up := cntI_up (p := P) (n := B.toNat) (m := t.toNat) (by omega) (fun j a b w => lt2 j (by omega) (by omega) ⟨w, by omega⟩)
      rw [cntI_t ht.1 pt.1]; omega
    · by_cases c : k < t
      · exact absurd w.1 (lt2 k a c)
      · have := w.2; omega
theorem CCS_isClass {post : Int → Prop} (e0 : mX29_classes (A 0) = n) (h1 : 0 ≤ c ∧ c < n → post 1) (h0 : ¬ (0 ≤ c ∧ c < n) → post 0) : wpCS_X29_isClass post mX29_classes (A 0) c := by
  unfold wpCS_X29_isClass
  rw [e0]
  exact ⟨fun a => h0 (by omega), fun a => ⟨fun b => h0 (by omega), fun b => h1 (by omega)⟩⟩
theorem CCS_isClassB {X Y : Prop} (e0 : mX29_classes (A 0) = n) (h1 : 0 ≤ c ∧ c < n → Y) (h0 : ¬ (0 ≤ c ∧ c < n) → X) : wpCS_X29_isClass (fun r => (r = 0 → X) ∧ (¬ r = 0 → Y)) mX29_classes (A 0) c :=
  CCS_isClass e0 (fun w => ⟨fun z => absurd z (by decide), fun _ => h1 w⟩) (fun w => ⟨fun _ => h0 w, fun z => absurd rfl z⟩)
theorem CCS_isGoalB {X Y : Prop} (e0 : mX29_classes (A 0) = n) (h1 : csGk n c → Y) (h0 : ¬ csGk n c → X) : wpCS_X29_isGoal (fun r => (r = 0 → X) ∧ (¬ r = 0 → Y)) mX29_classes (A 0) c := by
  unfold wpCS_X29_isGoal
  refine ⟨fun z => ⟨fun q => absurd q (by decide), fun _ => h1 (Or.inl z)⟩, fun z => CCS_isClassB e0 (fun w => ⟨fun q => absurd q (by decide), fun _ => h1 (Or.inr w)⟩) (fun w => ⟨fun _ => h0 (fun v => v.elim z w), fun q => absurd rfl q⟩)⟩
theorem CCS_goal {post : Int → Prop} (h : csGk n c) (hp : post (csGl c)) : wpCS_X29_goal post c := by
  unfold wpCS_X29_goal
  unfold csGk at h
  unfold csGl at hp
  refine ⟨fun z => ?_, fun z => ?_⟩
  · rw [if_neg (by omega)] at hp; exact hp
  · rw [if_pos (by omega)] at hp; exact hp
theorem CCS_isThingB {X Y : Prop} {t : Int} (e0 : mX29_thingCount (A 0) = t) (h1 : 0 ≤ c ∧ c < t → Y) (h0 : ¬ (0 ≤ c ∧ c < t) → X) : wpCS_X29_isThing (fun r => (r = 0 → X) ∧ (¬ r = 0 → Y)) mX29_thingCount (A 0) c := by
  unfold wpCS_X29_isThing
  rw [e0]
  exact ⟨fun a => ⟨fun _ => h0 (by omega), fun z => absurd rfl z⟩, fun a => ⟨fun b => ⟨fun _ => h0 (by omega), fun z => absurd rfl z⟩, fun b => ⟨fun z => absurd z (by decide), fun _ => h1 (by omega)⟩⟩⟩
/-- an axiom of one class alone -/
theorem CCS_isToldB {X Y : Prop} (T : swA kd an ar mX61_left mX61_right mX61_gone mJ2_elementData mJ2_size (sa 0) (A 1) L O R Th n m e fx) (h0 : 0 ≤ k) (h1 : k < m) (hy : ¬ Th k = 0 → O k = -1 → Y) (hx : ¬ (¬ Th k = 0 ∧ O k = -1) → X) : wpCS_X61_isTold (fun r => (r = 0 → X) ∧ (¬ r = 0 → Y)) mX61_left mX61_gone (fx k) := by
  obtain ⟨t1, t2, t3, t4, t5, t6⟩ := T
  obtain ⟨a1, a2, a3, a4, a5⟩ := t2 k h0 h1
  obtain ⟨x1, x2, x3⟩ := t4 k h0 h1
  unfold wpCS_X61_isTold
  refine ⟨fun z => CCS_pop a4 ?_, fun z => ⟨fun _ => hx (fun w => z (a3.mpr w.1)), fun q => absurd rfl q⟩⟩
  by_cases w : O k = -1
  · have ec : cntI (fun c => c = L k ∨ (0 ≤ O k ∧ c = O k)) 32 = cntI (fun c => c = L k) 32 := cntI_c (fun i _ _ => ⟨fun v => by omega, fun v => Or.inl v⟩)
    have this : cntI (fun c => c = L k ∨ (0 ≤ O k ∧ c = O k)) 32 = 1 := ec.trans (cntI_one ⟨x1.1, by omega⟩)
    rw [this]
    exact ⟨fun _ => ⟨fun q => absurd q (by decide), fun _ => hy (a3.mp z) w⟩, fun q => absurd rfl q⟩
  · have ec : cntI (fun c => c = L k ∨ (0 ≤ O k ∧ c = O k)) 32 = cntI (fun c => c = L k ∨ c = O k) 32 := cntI_c (fun i _ _ => ⟨fun v => by omega, fun v => by omega⟩)
    have this : cntI (fun c => c = L k ∨ (0 ≤ O k ∧ c = O k)) 32 = 2 := ec.trans (cntI_two ⟨x1.1, by omega⟩ ⟨by omega, by omega⟩ a5)
    rw [this]
    exact ⟨fun q => absurd q (by decide), fun _ => ⟨fun _ => hx (fun v => w v.2), fun q => absurd rfl q⟩⟩
theorem CCS_canFireB {X Y : Prop} {F : Int} (T : swA kd an ar mX61_left mX61_right mX61_gone mJ2_elementData mJ2_size (sa 0) (A 1) L O R Th n m e fx) (hF : mS F (fun c => c ≤ 20 ∧ ¬ fa c = 0)) (h0 : 0 ≤ k) (h1 : k < m) (hy : csFi L O R Th fa k → Y) (hx : ¬ csFi L O R Th fa k → X) : wpCS_X61_canFire (fun r => (r = 0 → X) ∧ (¬ r = 0 → Y)) mX61_left mX61_right mX61_gone (fx k) F := by
  obtain ⟨t1, t2, t3, t4, t5, t6⟩ := T
  obtain ⟨a1, a2, a3, a4, a5⟩ := t2 k h0 h1
  obtain ⟨x1, x2, x3⟩ := t4 k h0 h1
  have r20 := csH_b t6.2 x3
  unfold wpCS_X61_canFire
  rw [mS_sub a4 hF, a2]
  refine ⟨fun z => ⟨fun q => CCS_hasB hF r20.1 (by omega) (fun w => ⟨fun _ => hx (fun v => w.2 v.2.2.2), fun q => absurd rfl q⟩) (fun w => ⟨fun q => absurd q (by decide), fun _ => hy ⟨a3.mp z, (q _ x1.1 (by omega) (Or.inl rfl)).2, ?_, ?_⟩⟩), fun q => ⟨fun _ => hx (fun v => q (fun c c0 c1 w => ?_)), fun q => absurd rfl q⟩⟩, fun z => ⟨fun _ => hx (fun w => z (a3.mpr w.1)), fun q => absurd rfl q⟩⟩
  · by_cases o : O k = -1
    · exact Or.inl (by omega)
    · exact Or.inr (q (O k) (by omega) (by omega) (Or.inr ⟨by omega, rfl⟩)).2
  · exact Classical.byContradiction (fun v => w ⟨r20.2, v⟩)
  · rcases w with w | w
    · rw [w]; exact ⟨by omega, v.2.1⟩
    · rw [w.2]; refine ⟨by omega, ?_⟩
      rcases v.2.2.1 with u | u
      · omega
      · exact u
end

/-! ClassifySort, the component (room CS): closing, first half (what is told; Warshall; the other way round) -/
section
variable {kd : Nat → Nat} {an : Nat → Nat} {ai : Nat → Int → Int} {al : Nat → Int → Int} {ar : Nat → Int → Option Nat} {mX29_axioms : Nat → Option Nat} {mX29_reasoner : Nat → Option Nat} {mX29_classes : Nat → Int} {mX29_things : Nat → Option Nat} {mX29_thingCount : Nat → Int} {mX29_fuel : Nat → Int} {mX29_above : Nat → Option Nat} {mX29_not : Nat → Option Nat} {mX29_open : Nat → Option Nat} {mX29_under : Nat → Option Nat} {mX29_sorted : Nat → Int} {mX29_placed : Nat → Int} {mX29_empties : Nat → Int} {mX29_asked : Nat → Int} {mX30_fired : Nat → Option Nat} {mX30_many : Nat → Int} {mX30_facts : Nat → Int} {mX30_this_0 : Nat → Option Nat} {mX61_left : Nat → Int} {mX61_right : Nat → Int} {mX61_gone : Nat → Int} {mJ1_modCount : Nat → Int} {mJ2_elementData : Nat → Option Nat} {mJ2_size : Nat → Int} {sa : Nat → Nat} {A : Nat → Nat} {L O R Th s fa : Int → Int} {n m f g x y i k c a b : Int} {e : Nat} {fx : Int → Nat} {P Q : Int → Prop} {B0 : Int → Int → Prop}
/-- rows of above -/
def swR (g : Int → Int) (X : Int → Int → Prop) : Prop := ∀ a, 0 ≤ a → a ≤ 20 → mS (g a) (X a)
theorem swR_up {g : Int → Int} {X Y : Int → Int → Prop} {r v : Int} (h : swR g X) (hv : mS v (Y r)) (he : ∀ a, 0 ≤ a → a ≤ 20 → a ≠ r → ∀ b, 0 ≤ b → b < 32 → (X a b ↔ Y a b)) : swR (updI g r v) Y := fun a a0 a1 => by
  by_cases z : a = r
  · rw [z, updI_s]; exact hv
  · rw [updI_n z]; exact mS_c (h a a0 a1) (he a a0 a1 z)
theorem swR_c {g : Int → Int} {X Y : Int → Int → Prop} (h : swR g X) (he : ∀ a, 0 ≤ a → a ≤ 20 → ∀ b, 0 ≤ b → b < 32 → (X a b ↔ Y a b)) : swR g Y := fun a a0 a1 => mS_c (h a a0 a1) (he a a0 a1)
/-- what was, and what is told by the first k axioms -/
def swT (L O R Th : Int → Int) (B0 : Int → Int → Prop) (k a b : Int) : Prop := B0 a b ∨ ∃ j, (0 ≤ j ∧ j < k) ∧ ¬ Th j = 0 ∧ L j = a ∧ O j = -1 ∧ R j = b
theorem CCS_tl2 {K : (Nat → Int → Int) → Prop} (S : swF kd an mX29_axioms mX29_reasoner mX29_things mX29_above mX29_not mX29_open mX29_under mX30_fired mX30_this_0 A) (T : swA kd an ar mX61_left mX61_right mX61_gone mJ2_elementData mJ2_size (sa 0) (A 1) L O R Th n m e fx) (h : swR (ai (A 4)) B0)
    (hp : ∀ ai', swE ai ai' (fun a => a = A 4) → swR (ai' (A 4)) (swT L O R Th B0 m) → K ai') : ∃ fu, wCS_X29_close_2 K (A 0) kd an ar mX29_axioms mX29_above mX61_left mX61_right mX61_gone mJ2_elementData mJ2_size fu 0 ai := by
  obtain ⟨t1, t2, t3, t4, t5, t6⟩ := id T
  refine wl2 (fun d x1 ai => wCS_X29_close_2 K (A 0) kd an ar mX29_axioms mX29_above mX61_left mX61_right mX61_gone mJ2_elementData mJ2_size d x1 ai) (fun x1 ai' => (0 ≤ x1 ∧ x1 ≤ m) ∧ swE ai ai' (fun a => a = A 4) ∧ swR (ai' (A 4)) (swT L O R Th B0 x1)) (fun x1 _ => (m - x1).toNat) ?_ 0 ai ⟨by omega, fun _ _ => rfl, swR_c h (fun a _ _ b _ _ => ⟨Or.inl, fun w => w.elim id (fun ⟨j, hj, _⟩ => by omega)⟩)⟩
  rintro x1 ai' ⟨hx, hE, hR⟩ d ih
  rw [wCS_X29_close_2]
  unfold wpCS_J2_size
  refine kOn_of S.1.1 ⟨S.2.1.2.1, ?_⟩
  rw [t1.2.1]
  refine ⟨fun z => hp ai' hE (by have : x1 = m := by omega
                                 rw [this] at hR; exact hR), fun z => CCS_lget t1 hx.1 (by omega) (kOn_some ⟨(t2 x1 hx.1 (by omega)).1, CCS_isToldB T hx.1 (by omega) (fun th o1 => ?_) (fun no => ⟨by omega, fun _ e1 => ?_⟩)⟩)⟩
  · obtain ⟨a1, a2, a3, a4, a5⟩ := t2 x1 hx.1 (by omega)
    obtain ⟨y1, y2, y3⟩ := t4 x1 hx.1 (by omega)
    have r20 := csH_b t6.2 y3
    refine CCS_ntz a4 (fun w => (mS_z a4).mp w (L x1) y1.1 (by omega) (Or.inl rfl)) (fun t t0 t1' pt _ => ?_)
    have et : t = L x1 := by rcases pt with w | w <;> omega
    rw [et, a2]
    refine kOn_of S.1.2.2.2.1 ⟨S.2.2.1 4 (by decide) (by decide), by rw [S.2.2.2.1.2.1]; omega, ⟨r20.1, by omega⟩, fun v ev ai2 ea => ⟨by omega, fun _ e1 => ?_⟩⟩
    subst ev ea e1
    refine ih _ _ ⟨by omega, fun a ha => by rw [va_up_ne _ _ ha]; exact hE a ha, ?_⟩ (by omega)
    rw [va_up_self]
    refine swR_up hR (mS_c (mS_or (hR (L x1) y1.1 (by omega)) (mS_one ⟨r20.1, by omega⟩)) (fun b _ _ => ⟨fun w => ?_, fun w => ?_⟩)) (fun a _ _ na b _ _ => ⟨fun w => ?_, fun w => ?_⟩)
    · rcases w with w | w
      · exact w.imp id (fun ⟨j, hj, w⟩ => ⟨j, by omega, w⟩)
      · exact Or.inr ⟨x1, by omega, th, rfl, o1, w.symm⟩
    · rcases w with w | ⟨j, hj, w⟩
      · exact Or.inl (Or.inl w)
      · by_cases q : j = x1
        · rw [q] at w; exact Or.inr w.2.2.2.symm
        · exact Or.inl (Or.inr ⟨j, by omega, w⟩)
    · exact w.imp id (fun ⟨j, hj, w⟩ => ⟨j, by omega, w⟩)
    · refine w.imp id (fun ⟨j, hj, w⟩ => ⟨j, ?_, w⟩)
      have : j ≠ x1 := fun q => na (by rw [← q]; exact w.2.1.symm)
      omega
  · subst e1
    refine ih _ _ ⟨by omega, hE, swR_c hR (fun a _ _ b _ _ => ⟨fun w => w.imp id (fun ⟨j, hj, w⟩ => ⟨j, by omega, w⟩), fun w => w.imp id (fun ⟨j, hj, w⟩ => ⟨j, ?_, w⟩)⟩)⟩ (by omega)
    have : j ≠ x1 := fun q => no ⟨by rw [← q]; exact w.1, by rw [← q]; exact w.2.2.1⟩
    omega
/-- one pivot, rows below x done -/
def swW (n k x : Int) (X : Int → Int → Prop) (c b : Int) : Prop := X c b ∨ ((0 ≤ c ∧ c < x) ∧ X c k ∧ X k b)
theorem CCS_l69 {K : (Nat → Int → Int) → Prop} {X : Int → Int → Prop} (S : swF kd an mX29_axioms mX29_reasoner mX29_things mX29_above mX29_not mX29_open mX29_under mX30_fired mX30_this_0 A) (en : mX29_classes (A 0) = n) (hn : 0 ≤ n ∧ n ≤ 20) (hk : 0 ≤ k ∧ k ≤ 20) (h : swR (ai (A 4)) X)
    (hp : ∀ ai', swE ai ai' (fun a => a = A 4) → swR (ai' (A 4)) (swW n k n X) → K ai') : ∃ fu, wCS_X29_close_69 K (A 0) k kd an mX29_classes mX29_above fu 0 ai := by
  refine wl2 (fun d x2 ai => wCS_X29_close_69 K (A 0) k kd an mX29_classes mX29_above d x2 ai) (fun x2 ai' => (0 ≤ x2 ∧ x2 ≤ n) ∧ swE ai ai' (fun a => a = A 4) ∧ swR (ai' (A 4)) (swW n k x2 X)) (fun x2 _ => (n - x2).toNat) ?_ 0 ai ⟨by omega, fun _ _ => rfl, swR_c h (fun a _ _ b _ _ => ⟨Or.inl, fun w => w.elim id (fun w => by omega)⟩)⟩
  rintro x2 ai' ⟨hx, hE, hR⟩ d ih
  rw [wCS_X29_close_69, en]
  have l4 : (an (A 4) : Int) = 21 := by rw [S.2.2.2.1.2.1]; rfl
  refine ⟨fun z => hp ai' hE (by have : x2 = n := by omega
                                 rw [this] at hR; exact hR), fun z => kOn_of S.1.2.2.2.1 ⟨S.2.2.1 4 (by decide) (by decide), by omega, CCS_hasB (hR x2 hx.1 (by omega)) hk.1 (by omega) (fun w => ⟨by omega, fun v ev ai2 ea => ⟨by omega, fun _ e1 => ?_⟩⟩) (fun w => ⟨by omega, fun _ e1 => ?_⟩)⟩⟩
  · have w' : X x2 k := w.elim id (fun w => by omega)
    subst ev ea e1
    refine ih _ _ ⟨by omega, fun a ha => by rw [va_up_ne _ _ ha]; exact hE a ha, ?_⟩ (by omega)
    rw [va_up_self]
    refine swR_up hR (mS_c (mS_or (hR x2 hx.1 (by omega)) (hR k hk.1 hk.2)) (fun b _ _ => ⟨fun w => ?_, fun w => ?_⟩)) (fun a _ _ na b _ _ => ⟨fun w => w.imp id (fun w => ⟨by omega, w.2⟩), fun w => w.imp id (fun w => ⟨by omega, w.2⟩)⟩)
    · rcases w with (w | w) | (w | w)
      · exact Or.inl w
      · omega
      · exact Or.inr ⟨by omega, w', w⟩
      · exact Or.inr ⟨by omega, w', w.2.2⟩
    · rcases w with w | w
      · exact Or.inl (Or.inl w)
      · exact Or.inr (Or.inl w.2.2)
  · have w' : ¬ X x2 k := fun q => w (Or.inl q)
    subst e1
    refine ih _ _ ⟨by omega, hE, swR_c hR (fun a _ _ b _ _ => ⟨fun w => w.imp id (fun w => ⟨by omega, w.2⟩), fun w => w.imp id (fun w => ⟨?_, w.2⟩)⟩)⟩ (by omega)
    have : a ≠ x2 := fun q => w' (by rw [← q]; exact w.2.1)
    omega
/-- closed over pivots below p -/
def swP (n p : Int) (B X : Int → Int → Prop) : Prop := (∀ a b, X a b → csH n a ∧ csH n b ∧ csY n B a b) ∧ (∀ a b, csH n a → csH n b → B a b → X a b) ∧ ∀ q c b, 0 ≤ q → q < p → X c q → X q b → X c b
theorem swP_s {B X : Int → Int → Prop} {p : Int} (hn : 0 ≤ n ∧ n ≤ 20) (h20 : ∀ b, csH n b → B 20 b) (h : swP n p B X) : swP n (p + 1) B (swW n p n X) := by
  obtain ⟨h1, h2, h3⟩ := h
  have t20 : ∀ b, csH n b → X 20 b := fun b hb => h2 20 b csH_20 hb (h20 b hb)
  refine ⟨fun a b w => ?_, fun a b ha hb w => Or.inl (h2 a b ha hb w), fun q c b q0 q1 w v => ?_⟩
  · rcases w with w | ⟨_, w, v⟩
    · exact h1 a b w
    · have a1 := h1 _ _ w
      have a2 := h1 _ _ v
      exact ⟨a1.1, a2.2.1, csY_t a1.1 a1.2.1 a2.2.1 a1.2.2 a2.2.2⟩
  · have hb : csH n b := by
      rcases v with v | v
      · exact (h1 _ _ v).2.1
      · exact (h1 _ _ v.2.2).2.1
    have hc : csH n c := by
      rcases w with w | w
      · exact (h1 _ _ w).1
      · exact (h1 _ _ w.2.1).1
    by_cases c20 : c = 20
    · rw [c20]; exact Or.inl (t20 b hb)
    have cb : 0 ≤ c ∧ c < n := by unfold csH at hc; omega
    by_cases qp : q = p
    · have w' : X c p := by
        rw [qp] at w
        exact w.elim id (fun w => w.2.1)
      have v' : X p b := by
        rw [qp] at v
        exact v.elim id (fun v => v.2.2)
      exact Or.inr ⟨cb, w', v'⟩
    have ql : q < p := by omega
    rcases w with w | ⟨_, w, w2⟩
    · rcases v with v | ⟨_, v, v2⟩
      · exact Or.inl (h3 q c b q0 ql w v)
      · exact Or.inr ⟨cb, h3 q c p q0 ql w v, v2⟩
    · rcases v with v | ⟨_, v, v2⟩
      · exact Or.inr ⟨cb, w, h3 q p b q0 ql w2 v⟩
      · exact Or.inr ⟨cb, w, v2⟩
theorem CCS_l61 {K : (Nat → Int → Int) → Prop} {X B : Int → Int → Prop} (S : swF kd an mX29_axioms mX29_reasoner mX29_things mX29_above mX29_not mX29_open mX29_under mX30_fired mX30_this_0 A) (en : mX29_classes (A 0) = n) (hn : 0 ≤ n ∧ n ≤ 20) (h20 : ∀ b, csH n b → B 20 b) (h : swR (ai (A 4)) X) (hX : ∀ a b, X a b ↔ csH n a ∧ csH n b ∧ B a b)
    (hp : ∀ ai' Y, swE ai ai' (fun a => a = A 4) → swR (ai' (A 4)) Y → (∀ a b, Y a b ↔ csH n a ∧ csH n b ∧ csY n B a b) → K ai') : ∃ fu, wCS_X29_close_61 K (A 0) kd an mX29_classes mX29_above fu 0 ai := by
  refine wl2 (fun d x1 ai => wCS_X29_close_61 K (A 0) kd an mX29_classes mX29_above d x1 ai) (fun x1 ai' => (0 ≤ x1 ∧ x1 ≤ 21) ∧ swE ai ai' (fun a => a = A 4) ∧ ∃ Y, swR (ai' (A 4)) Y ∧ swP n x1 B Y) (fun x1 _ => (21 - x1).toNat) ?_ 0 ai ⟨by decide, fun _ _ => rfl, X, h, fun a b w => ?_, fun a b ha hb w => (hX a b).mpr ⟨ha, hb, w⟩, fun q c b q0 q1 => by omega⟩
  · rintro x1 ai' ⟨hx, hE, Y, hR, hP⟩ d ih
    rw [wCS_X29_close_61]
    refine ⟨fun z => hp ai' Y hE hR (fun a b => ⟨fun w => hP.1 a b w, fun w => ?_⟩), fun z => CCS_l69 S en hn ⟨hx.1, by omega⟩ hR (fun ai2 hE2 hR2 => ⟨by omega, fun _ e1 => ?_⟩)⟩
    · have e21 : x1 = 21 := by omega
      refine w.2.2 Y (fun x y hx hy w => hP.2.1 x y hx hy w) (fun x y z _ hy _ w v => hP.2.2 y x z (csH_b hn.2 hy).1 ?_ w v)
      have := csH_b hn.2 hy
      omega
    · subst e1
      exact ih _ _ ⟨by omega, fun a ha => (hE2 a ha).trans (hE a ha), _, hR2, swP_s hn h20 hP⟩ (by omega)
  · have := (hX a b).mp w
    exact ⟨this.1, this.2.1, csY_b this.1 this.2.1 this.2.2⟩
/-- the other way round -/
theorem CCS_turn {post : (Nat → Int → Int) → Prop} {X : Int → Int → Prop} (S : swF kd an mX29_axioms mX29_reasoner mX29_things mX29_above mX29_not mX29_open mX29_under mX30_fired mX30_this_0 A) (hn : 0 ≤ n ∧ n ≤ 20) (h : swR (ai (A 4)) X) (hX : ∀ a b, X a b → csH n a ∧ csH n b)
    (hp : ∀ ai', swE ai ai' (fun a => a = A 7) → swR (ai' (A 7)) (fun b c => X c b) → post ai') : wpCS_X29_turn post kd an ai mX29_above mX29_under (A 0) := by
  have l4 : (an (A 4) : Int) = 21 := by rw [S.2.2.2.1.2.1]; rfl
  have l7 : (an (A 7) : Int) = 21 := by rw [S.2.2.2.1.2.2.2.2.1]; rfl
  have n47 : A 4 ≠ A 7 := S.2.2.2.2 4 7 (by decide) (by decide) (by decide) (by decide) (by decide)
  unfold wpCS_X29_turn
  refine wl2 (fun d x1 ai => wCS_X29_turn_2 _ (A 0) kd an mX29_above mX29_under d x1 ai) (fun x1 ai' => (0 ≤ x1 ∧ x1 ≤ 21) ∧ swE ai ai' (fun a => a = A 7) ∧ ∀ b, 0 ≤ b → b < x1 → mS (ai' (A 7) b) (fun c => X c b)) (fun x1 _ => (21 - x1).toNat) ?_ 0 ai ⟨by decide, fun _ _ => rfl, fun b b0 b1 => by omega⟩
  rintro x1 ai' ⟨hx, hE, hR⟩ d ih
  rw [wCS_X29_turn_2]
  refine ⟨fun z => hp ai' hE (fun b b0 b1 => hR b b0 (by omega)), fun z => kOn_of S.1.2.2.2.2.2.2.1 ⟨S.2.2.1 7 (by decide) (by decide), by omega, fun ai2 e2 => ?_⟩⟩
  subst e2
  refine wl2 (fun d2 x2 ai => wCS_X29_turn_17 _ (A 0) x1 kd an mX29_above mX29_under d2 x2 ai) (fun x2 ai2 => (0 ≤ x2 ∧ x2 ≤ 21) ∧ swE ai ai2 (fun a => a = A 7) ∧ (∀ b, 0 ≤ b → b < x1 → mS (ai2 (A 7) b) (fun c => X c b)) ∧ mS (ai2 (A 7) x1) (fun c => c < x2 ∧ X c x1)) (fun x2 _ => (21 - x2).toNat) ?_ 0 (va_up ai' (A 7) (updI (ai' (A 7)) x1 0)) ⟨by decide, fun a ha => by rw [va_up_ne _ _ ha]; exact hE a ha, fun b b0 b1 => by rw [va_up_self, updI_n (by omega)]; exact hR b b0 b1, by rw [va_up_self, updI_s]; exact mS_c mS_0 (fun c c0 _ => ⟨fun w => w.elim, fun w => by omega⟩)⟩
  rintro x2 ai2 ⟨hx2, hE2, hR2, hM⟩ d2 ih2
  rw [wCS_X29_turn_17]
  have e4 : ai2 (A 4) = ai (A 4) := hE2 _ n47
  refine ⟨fun z2 => ⟨by omega, fun _ e1 => ?_⟩, fun z2 => kOn_of S.1.2.2.2.2.2.2.1 ⟨S.2.2.1 7 (by decide) (by decide), by omega, kOn_of S.1.2.2.2.1 ⟨S.2.2.1 4 (by decide) (by decide), by omega, ?_⟩⟩⟩
  · subst e1
    refine ih _ _ ⟨by omega, hE2, fun b b0 b1 => ?_⟩ (by omega)
    by_cases q : b = x1
    · rw [q]
      exact mS_c hM (fun c c0 c1 => ⟨fun w => w.2, fun w => ⟨by have := csH_b hn.2 (hX _ _ w).1; omega, w⟩⟩)
    · exact hR2 b b0 (by omega)
  · rw [e4]
    refine CCS_hasB (h x2 hx2.1 (by omega)) hx.1 (by omega) (fun w => ⟨⟨hx2.1, by omega⟩, fun v ev ai3 ea => ⟨by omega, fun _ e1 => ?_⟩⟩) (fun w => fun v ev ai3 ea => ⟨by omega, fun _ e1 => ?_⟩)
    · subst ev ea e1
      refine ih2 _ _ ⟨by omega, fun a ha => by rw [va_up_ne _ _ ha]; exact hE2 a ha, fun b b0 b1 => by rw [va_up_self, updI_n (by omega)]; exact hR2 b b0 b1, ?_⟩ (by omega)
      rw [va_up_self, updI_s]
      refine mS_c (mS_or hM (mS_one ⟨hx2.1, by omega⟩)) (fun c _ _ => ⟨fun q => ?_, fun q => ?_⟩)
      · rcases q with q | q
        · exact ⟨by omega, q.2⟩
        · rw [q]; exact ⟨by omega, w⟩
      · by_cases u : c = x2
        · exact Or.inr u
        · exact Or.inl ⟨by omega, q.2⟩
    · subst ev ea e1
      refine ih2 _ _ ⟨by omega, fun a ha => by rw [va_up_ne _ _ ha]; exact hE2 a ha, fun b b0 b1 => by rw [va_up_self, updI_n (by omega)]; exact hR2 b b0 b1, ?_⟩ (by omega)
      rw [va_up_self, updI_s]
      refine mS_c (mS_or hM mS_0) (fun c _ _ => ⟨fun q => ?_, fun q => ?_⟩)
      · rcases q with q | q
        · exact ⟨by omega, q.2⟩
        · exact q.elim
      · refine Or.inl ⟨?_, q.2⟩
        have : c ≠ x2 := fun u => w (by rw [← u]; exact q.2)
        omega
end

/-! ClassifySort, the component (room CS): closing, second half (not, open); the whole -/
section
variable {kd : Nat → Nat} {an : Nat → Nat} {ai : Nat → Int → Int} {al : Nat → Int → Int} {ar : Nat → Int → Option Nat} {mX29_axioms : Nat → Option Nat} {mX29_reasoner : Nat → Option Nat} {mX29_classes : Nat → Int} {mX29_things : Nat → Option Nat} {mX29_thingCount : Nat → Int} {mX29_fuel : Nat → Int} {mX29_above : Nat → Option Nat} {mX29_not : Nat → Option Nat} {mX29_open : Nat → Option Nat} {mX29_under : Nat → Option Nat} {mX29_sorted : Nat → Int} {mX29_placed : Nat → Int} {mX29_empties : Nat → Int} {mX29_asked : Nat → Int} {mX30_fired : Nat → Option Nat} {mX30_many : Nat → Int} {mX30_facts : Nat → Int} {mX30_this_0 : Nat → Option Nat} {mX61_left : Nat → Int} {mX61_right : Nat → Int} {mX61_gone : Nat → Int} {mJ1_modCount : Nat → Int} {mJ2_elementData : Nat → Option Nat} {mJ2_size : Nat → Int} {sa : Nat → Nat} {A : Nat → Nat} {L O R Th s fa : Int → Int} {n m f g x y i k c a b : Int} {e : Nat} {fx : Int → Nat} {P Q : Int → Prop} {B0 Y : Int → Int → Prop}
/-- rows below 20 -/
def swR2 (g : Int → Int) (X : Int → Int → Prop) : Prop := ∀ a, 0 ≤ a → a < 20 → mS (g a) (X a)
theorem swR2_up {g : Int → Int} {X Y : Int → Int → Prop} {r v : Int} (h : swR2 g X) (hv : mS v (Y r)) (he : ∀ a, 0 ≤ a → a < 20 → a ≠ r → ∀ b, 0 ≤ b → b < 32 → (X a b ↔ Y a b)) : swR2 (updI g r v) Y := fun a a0 a1 => by
  by_cases z : a = r
  · rw [z, updI_s]; exact hv
  · rw [updI_n z]; exact mS_c (h a a0 a1) (he a a0 a1 z)
theorem swR2_c {g : Int → Int} {X Y : Int → Int → Prop} (h : swR2 g X) (he : ∀ a, 0 ≤ a → a < 20 → ∀ b, 0 ≤ b → b < 32 → (X a b ↔ Y a b)) : swR2 g Y := fun a a0 a1 => mS_c (h a a0 a1) (he a a0 a1)
/-- what is to be denied -/
def swNn (n : Int) (N0 Y : Int → Int → Prop) (c d : Int) : Prop := (0 ≤ c ∧ c < n) ∧ csH n d ∧ ∃ a b, N0 a b ∧ Y a c ∧ Y d b
theorem CCS_l160 {K : (Nat → Int → Int) → Prop} {N0 X : Int → Int → Prop} {j : Int} (S : swF kd an mX29_axioms mX29_reasoner mX29_things mX29_above mX29_not mX29_open mX29_under mX30_fired mX30_this_0 A) (en : mX29_classes (A 0) = n) (hn : 0 ≤ n ∧ n ≤ 20)
    (hY : swR (ai (A 4)) Y) (hU : swR (ai (A 7)) (fun b c => Y c b)) (hB : ∀ a b, Y a b → csH n a ∧ csH n b) (hT : ∀ a b c, Y a b → Y b c → Y a c) (h : swR2 (ai (A 5)) X) (hX : ∀ a b, X a b → swNn n N0 Y a b) (hj : 0 ≤ j ∧ j < n) (hk : 0 ≤ k ∧ k ≤ 20) (hM : swNn n N0 Y j k)
    (hp : ∀ ai' X', swE ai ai' (fun a => a = A 5) → swR2 (ai' (A 5)) X' → (∀ a b, X' a b → swNn n N0 Y a b) → (∀ a b, X a b → X' a b) → (∀ c d, 0 ≤ c → c < n → Y j c → Y d k → X' c d) → K ai') : ∃ fu, wCS_X29_close_160 K (A 0) j k kd an mX29_classes mX29_above mX29_not mX29_under fu 0 ai := by
  have l4 : (an (A 4) : Int) = 21 := by rw [S.2.2.2.1.2.1]; rfl
  have l5 : (an (A 5) : Int) = 21 := by rw [S.2.2.2.1.2.2.1]; rfl
  have l7 : (an (A 7) : Int) = 21 := by rw [S.2.2.2.1.2.2.2.2.1]; rfl
  have n45 : A 4 ≠ A 5 := S.2.2.2.2 4 5 (by decide) (by decide) (by decide) (by decide) (by decide)
  have n75 : A 7 ≠ A 5 := S.2.2.2.2 7 5 (by decide) (by decide) (by decide) (by decide) (by decide)
  refine wl2 (fun d x4 ai => wCS_X29_close_160 K (A 0) j k kd an mX29_classes mX29_above mX29_not mX29_under d x4 ai) (fun x4 ai' => (0 ≤ x4 ∧ x4 ≤ n) ∧ swE ai ai' (fun a => a = A 5) ∧ ∃ X', swR2 (ai' (A 5)) X' ∧ (∀ a b, X' a b → swNn n N0 Y a b) ∧ (∀ a b, X a b → X' a b) ∧ ∀ c d, 0 ≤ c → c < x4 → Y j c → Y d k → X' c d) (fun x4 _ => (n - x4).toNat) ?_ 0 ai ⟨by omega, fun _ _ => rfl, X, h, hX, fun _ _ w => w, fun c d c0 c1 => by omega⟩
  rintro x4 ai' ⟨hx, hE, X', hR, hX', hI, hD⟩ d ih
  rw [wCS_X29_close_160, en]
  have e4 : ai' (A 4) = ai (A 4) := hE _ n45
  have e7 : ai' (A 7) = ai (A 7) := hE _ n75
  refine ⟨fun z => hp ai' X' hE hR hX' hI (fun c d c0 c1 => hD c d c0 (by omega)), fun z => kOn_of S.1.2.2.2.1 ⟨S.2.2.1 4 (by decide) (by decide), by omega, ?_⟩⟩
  rw [e4]
  refine CCS_hasB (hY j hj.1 (by omega)) hx.1 (by omega) (fun w => kOn_of S.1.2.2.2.2.1 ⟨S.2.2.1 5 (by decide) (by decide), by omega, kOn_of S.1.2.2.2.2.2.2.1 ⟨S.2.2.1 7 (by decide) (by decide), by omega, fun v ev ai2 ea => ⟨by omega, fun _ e1 => ?_⟩⟩⟩) (fun w => ⟨by omega, fun _ e1 => ?_⟩)
  · rw [e7] at ev
    subst ev ea e1
    refine ih _ _ ⟨by omega, fun a ha => by rw [va_up_ne _ _ ha]; exact hE a ha, fun c b => X' c b ∨ (c = x4 ∧ Y b k), ?_, fun a b q => ?_, fun a b q => Or.inl (hI a b q), fun c d c0 c1 u v => ?_⟩ (by omega)
    · rw [va_up_self]
      refine swR2_up hR (mS_c (mS_or (hR x4 hx.1 (by omega)) (hU k hk.1 hk.2)) (fun b _ _ => ⟨fun q => q.imp id (fun q => ⟨rfl, q⟩), fun q => q.imp id (fun q => q.2)⟩)) (fun a _ _ na b _ _ => ⟨Or.inl, fun q => q.elim id (fun q => absurd q.1 na)⟩)
    · rcases q with q | ⟨q, v⟩
      · exact hX' a b q
      · obtain ⟨m1, m2, a', b', u1, u2, u3⟩ := hM
        rw [q]
        exact ⟨⟨hx.1, by omega⟩, (hB _ _ v).1, a', b', u1, hT _ _ _ u2 w, hT _ _ _ v u3⟩
    · by_cases q : c = x4
      · exact Or.inr ⟨q, v⟩
      · exact Or.inl (hD c d c0 (by omega) u v)
  · subst e1
    refine ih _ _ ⟨by omega, hE, X', hR, hX', hI, fun c d c0 c1 u v => ?_⟩ (by omega)
    have : c ≠ x4 := fun q => w (by rw [← q]; exact u)
    exact hD c d c0 (by omega) u v
theorem CCS_l140 {K : (Nat → Int → Int) → Prop} {N0 X : Int → Int → Prop} {j M : Int} (S : swF kd an mX29_axioms mX29_reasoner mX29_things mX29_above mX29_not mX29_open mX29_under mX30_fired mX30_this_0 A) (en : mX29_classes (A 0) = n) (hn : 0 ≤ n ∧ n ≤ 20)
    (hY : swR (ai (A 4)) Y) (hU : swR (ai (A 7)) (fun b c => Y c b)) (hB : ∀ a b, Y a b → csH n a ∧ csH n b) (hT : ∀ a b c, Y a b → Y b c → Y a c) (h : swR2 (ai (A 5)) X) (hX : ∀ a b, X a b → swNn n N0 Y a b) (hj : 0 ≤ j ∧ j < n) (hM : mS M (X j))
    (hp : ∀ ai' X', swE ai ai' (fun a => a = A 5) → swR2 (ai' (A 5)) X' → (∀ a b, X' a b → swNn n N0 Y a b) → (∀ a b, X a b → X' a b) → (∀ b c d, X j b → 0 ≤ c → c < n → Y j c → Y d b → X' c d) → K ai') : ∃ fu, wCS_X29_close_140 K (A 0) j M kd an mX29_classes mX29_above mX29_not mX29_under fu 0 ai := by
  have n45 : A 4 ≠ A 5 := S.2.2.2.2 4 5 (by decide) (by decide) (by decide) (by decide) (by decide)
  have n75 : A 7 ≠ A 5 := S.2.2.2.2 7 5 (by decide) (by decide) (by decide) (by decide) (by decide)
  refine wl2 (fun d x3 ai => wCS_X29_close_140 K (A 0) j M kd an mX29_classes mX29_above mX29_not mX29_under d x3 ai) (fun x3 ai' => (0 ≤ x3 ∧ x3 ≤ 21) ∧ swE ai ai' (fun a => a = A 5) ∧ ∃ X', swR2 (ai' (A 5)) X' ∧ (∀ a b, X' a b → swNn n N0 Y a b) ∧ (∀ a b, X a b → X' a b) ∧ ∀ b c d, 0 ≤ b → b < x3 → X j b → 0 ≤ c → c < n → Y j c → Y d b → X' c d) (fun x3 _ => (21 - x3).toNat) ?_ 0 ai ⟨by decide, fun _ _ => rfl, X, h, hX, fun _ _ w => w, fun b c d c0 c1 => by omega⟩
  rintro x3 ai' ⟨hx, hE, X', hR, hX', hI, hD⟩ d ih
  rw [wCS_X29_close_140]
  refine ⟨fun z => hp ai' X' hE hR hX' hI (fun b c d w c0 c1 => ?_), fun z => CCS_hasB hM hx.1 (by omega) (fun w => ?_) (fun w => ⟨by omega, fun _ e1 => ?_⟩)⟩
  · have hb := csH_b hn.2 (hX _ _ w).2.1
    exact hD b c d hb.1 (by omega) w c0 c1
  · have hY' : swR (ai' (A 4)) Y := by rw [hE _ n45]; exact hY
    have hU' : swR (ai' (A 7)) (fun b c => Y c b) := by rw [hE _ n75]; exact hU
    refine CCS_l160 (X := X') S en hn hY' hU' hB hT hR hX' hj ⟨hx.1, by omega⟩ (hX _ _ w) (fun ai2 X2 hE2 hR2 hX2 hI2 hD2 => ⟨by omega, fun _ e1 => ?_⟩)
    subst e1
    refine ih _ _ ⟨by omega, fun a ha => (hE2 a ha).trans (hE a ha), X2, hR2, hX2, fun a b q => hI2 a b (hI a b q), fun b c d b0 b1 q c0 c1 u v => ?_⟩ (by omega)
    by_cases r : b = x3
    · rw [r] at v; exact hD2 c d c0 c1 u v
    · exact hI2 _ _ (hD b c d b0 (by omega) q c0 c1 u v)
  · subst e1
    refine ih _ _ ⟨by omega, hE, X', hR, hX', hI, fun b c d b0 b1 q c0 c1 u v => ?_⟩ (by omega)
    have : b ≠ x3 := fun r => w (by rw [← r]; exact q)
    exact hD b c d b0 (by omega) q c0 c1 u v
theorem CCS_l123 {K : (Nat → Int → Int) → Prop} {N0 : Int → Int → Prop} (S : swF kd an mX29_axioms mX29_reasoner mX29_things mX29_above mX29_not mX29_open mX29_under mX30_fired mX30_this_0 A) (en : mX29_classes (A 0) = n) (hn : 0 ≤ n ∧ n ≤ 20)
    (hY : swR (ai (A 4)) Y) (hU : swR (ai (A 7)) (fun b c => Y c b)) (hB : ∀ a b, Y a b → csH n a ∧ csH n b) (hT : ∀ a b c, Y a b → Y b c → Y a c) (hr : ∀ a, csH n a → Y a a) (h : swR2 (ai (A 5)) N0) (hN : ∀ a b, N0 a b → (0 ≤ a ∧ a < n) ∧ csH n b)
    (hp : ∀ ai' X', swE ai ai' (fun a => a = A 5) → swR2 (ai' (A 5)) X' → (∀ a b, X' a b ↔ swNn n N0 Y a b) → K ai') : ∃ fu, wCS_X29_close_123 K (A 0) kd an mX29_classes mX29_above mX29_not mX29_under fu 0 ai := by
  have l5 : (an (A 5) : Int) = 21 := by rw [S.2.2.2.1.2.2.1]; rfl
  have n45 : A 4 ≠ A 5 := S.2.2.2.2 4 5 (by decide) (by decide) (by decide) (by decide) (by decide)
  have n75 : A 7 ≠ A 5 := S.2.2.2.2 7 5 (by decide) (by decide) (by decide) (by decide) (by decide)
  refine wl2 (fun d x1 ai => wCS_X29_close_123 K (A 0) kd an mX29_classes mX29_above mX29_not mX29_under d x1 ai) (fun x1 ai' => (0 ≤ x1 ∧ x1 ≤ n) ∧ swE ai ai' (fun a => a = A 5) ∧ ∃ X', swR2 (ai' (A 5)) X' ∧ (∀ a b, X' a b → swNn n N0 Y a b) ∧ (∀ a b, N0 a b → X' a b) ∧ ∀ a b c d, a < x1 → N0 a b → 0 ≤ c → c < n → Y a c → Y d b → X' c d) (fun x1 _ => (n - x1).toNat) ?_ 0 ai ⟨by omega, fun _ _ => rfl, N0, h, fun a b w => ⟨(hN a b w).1, (hN a b w).2, a, b, w, hr _ (csH_l (hN a b w).1.1 (hN a b w).1.2), hr _ (hN a b w).2⟩, fun _ _ w => w, fun a b c d a1 w => by have := hN a b w; omega⟩
  rintro x1 ai' ⟨hx, hE, X', hR, hX', hI, hD⟩ d ih
  rw [wCS_X29_close_123, en]
  have hY' : swR (ai' (A 4)) Y := by rw [hE _ n45]; exact hY
  have hU' : swR (ai' (A 7)) (fun b c => Y c b) := by rw [hE _ n75]; exact hU
  refine ⟨fun z => hp ai' X' hE hR (fun a b => ⟨hX' a b, fun ⟨w1, w2, a', b', u1, u2, u3⟩ => hD a' b' a b ?_ u1 w1.1 w1.2 u2 u3⟩), fun z => kOn_of S.1.2.2.2.2.1 ⟨S.2.2.1 5 (by decide) (by decide), by omega, fun v ev => ?_⟩⟩
  · have := hN a' b' u1; omega
  · subst ev
    refine CCS_l140 (X := X') S en hn hY' hU' hB hT hR hX' ⟨hx.1, by omega⟩ (hR x1 hx.1 (by omega)) (fun ai2 X2 hE2 hR2 hX2 hI2 hD2 => ⟨by omega, fun _ e1 => ?_⟩)
    subst e1
    refine ih _ _ ⟨by omega, fun a ha => (hE2 a ha).trans (hE a ha), X2, hR2, hX2, fun a b q => hI2 a b (hI a b q), fun a b c d a1 q c0 c1 u v => ?_⟩ (by omega)
    by_cases r : a = x1
    · rw [r] at q u; exact hD2 b c d (hI _ _ q) c0 c1 u v
    · exact hI2 _ _ (hD a b c d (by omega) q c0 c1 u v)
theorem CCS_l219 {K : (Nat → Int → Int) → Prop} {N U : Int → Int → Prop} (S : swF kd an mX29_axioms mX29_reasoner mX29_things mX29_above mX29_not mX29_open mX29_under mX30_fired mX30_this_0 A) (en : mX29_classes (A 0) = n) (hn : 0 ≤ n ∧ n ≤ 20)
    (hY : swR (ai (A 4)) Y) (hN : swR2 (ai (A 5)) N) (hO : swR2 (ai (A 6)) U) (hp : ∀ ai', swE ai ai' (fun a => a = A 6) → swR2 (ai' (A 6)) (fun a b => U a b ∧ ¬ (a < n ∧ (Y a b ∨ N a b))) → K ai') : ∃ fu, wCS_X29_close_219 K (A 0) kd an mX29_classes mX29_above mX29_not mX29_open fu 0 ai := by
  have l4 : (an (A 4) : Int) = 21 := by rw [S.2.2.2.1.2.1]; rfl
  have l5 : (an (A 5) : Int) = 21 := by rw [S.2.2.2.1.2.2.1]; rfl
  have l6 : (an (A 6) : Int) = 21 := by rw [S.2.2.2.1.2.2.2.1]; rfl
  have n46 : A 4 ≠ A 6 := S.2.2.2.2 4 6 (by decide) (by decide) (by decide) (by decide) (by decide)
  have n56 : A 5 ≠ A 6 := S.2.2.2.2 5 6 (by decide) (by decide) (by decide) (by decide) (by decide)
  refine wl2 (fun d x1 ai => wCS_X29_close_219 K (A 0) kd an mX29_classes mX29_above mX29_not mX29_open d x1 ai) (fun x1 ai' => (0 ≤ x1 ∧ x1 ≤ n) ∧ swE ai ai' (fun a => a = A 6) ∧ swR2 (ai' (A 6)) (fun a b => U a b ∧ ¬ (a < x1 ∧ (Y a b ∨ N a b)))) (fun x1 _ => (n - x1).toNat) ?_ 0 ai ⟨by omega, fun _ _ => rfl, swR2_c hO (fun a a0 _ b _ _ => ⟨fun w => ⟨w, fun v => by omega⟩, fun w => w.1⟩)⟩
  rintro x1 ai' ⟨hx, hE, hR⟩ d ih
  rw [wCS_X29_close_219, en]
  have e4 : ai' (A 4) = ai (A 4) := hE _ n46
  have e5 : ai' (A 5) = ai (A 5) := hE _ n56
  refine ⟨fun z => hp ai' hE (by have : x1 = n := by omega
                                 rw [this] at hR; exact hR), fun z => kOn_of S.1.2.2.2.2.2.1 ⟨S.2.2.1 6 (by decide) (by decide), by omega, kOn_of S.1.2.2.2.1 ⟨S.2.2.1 4 (by decide) (by decide), by omega, kOn_of S.1.2.2.2.2.1 ⟨S.2.2.1 5 (by decide) (by decide), by omega, fun v ev ai2 ea => ⟨by omega, fun _ e1 => ?_⟩⟩⟩⟩⟩
  rw [e4, e5] at ev
  subst ev ea e1
  refine ih _ _ ⟨by omega, fun a ha => by rw [va_up_ne _ _ ha]; exact hE a ha, ?_⟩ (by omega)
  rw [va_up_self]
  refine swR2_up hR (mS_c (mS_and (hR x1 hx.1 (by omega)) (mS_not (mS_or (hY x1 hx.1 (by omega)) (hN x1 hx.1 (by omega))))) (fun b _ _ => ⟨fun w => ⟨w.1.1, fun v => w.2 v.2⟩, fun w => ⟨⟨w.1, fun v => by omega⟩, fun v => w.2 ⟨by omega, v⟩⟩⟩)) (fun a _ _ na b _ _ => ⟨fun w => ⟨w.1, fun v => w.2 ⟨by omega, v.2⟩⟩, fun w => ⟨w.1, fun v => w.2 ⟨by omega, v.2⟩⟩⟩)
/-- closed: what follows is known -/
def csK (n : Int) (L O R Th : Int → Int) (m : Int) (s : Int → Int) : Prop := (∀ a b, csH n a → csH n b → csY n (csB0 L O R Th m s) a b → csB s a b) ∧ ∀ a b, (0 ≤ a ∧ a < n) → csH n b → csNo n (csB0 L O R Th m s) s a b → s (21 * a + b) = 0
theorem csCl_v (hn : n ≤ 20) (ha : 0 ≤ a ∧ a < n) (hb : csH n b) : csCl n L O R Th m s (21 * a + b) = pif (csY n (csB0 L O R Th m s) a b) 1 (pif (csNo n (csB0 L O R Th m s) s a b) 0 (s (21 * a + b))) := by
  have D := csH_d (a := a) hb hn
  have B := csH_b hn hb
  unfold csCl
  rw [D.1, D.2]
  exact pif_t ⟨by omega, hb⟩
theorem csNo_r (ha : 0 ≤ a ∧ a < n) (hb : csH n b) (h : s (21 * a + b) = 0) : csNo n (csB0 L O R Th m s) s a b := ⟨a, b, ⟨ha, hb⟩, h, csY_b (csH_l ha.1 ha.2) (csH_l ha.1 ha.2) (Or.inl rfl), csY_b hb hb (Or.inl rfl)⟩
/-- both cannot be -/
theorem csNo_x (h : csOk n L O R Th m s) (ha : csH n a) (hb : csH n b) (hy : csY n (csB0 L O R Th m s) a b) (hno : csNo n (csB0 L O R Th m s) s a b) : False := by
  obtain ⟨a', b', ⟨h1, h2⟩, h3, h4, h5⟩ := hno
  exact h a' b' h1.1 h1.2 h2 h3 (csY_t (csH_l h1.1 h1.2) ha h2 h4 (csY_t ha hb h2 hy h5))
theorem csCl_1 (hn : n ≤ 20) (h : csOk n L O R Th m s) (ha : 0 ≤ a ∧ a < n) (hb : csH n b) : csCl n L O R Th m s (21 * a + b) = 1 ↔ csY n (csB0 L O R Th m s) a b := by
  rw [csCl_v hn ha hb]
  by_cases w : csY n (csB0 L O R Th m s) a b
  · rw [pif_t w]; exact ⟨fun _ => w, fun _ => rfl⟩
  · rw [pif_f w]
    refine ⟨fun q => ?_, fun q => absurd q w⟩
    by_cases v : csNo n (csB0 L O R Th m s) s a b
    · rw [pif_t v] at q; exact absurd q (by decide)
    · rw [pif_f v] at q
      exact csY_b (csH_l ha.1 ha.2) hb (Or.inr (Or.inr (Or.inl q)))
theorem csCl_0 (hn : n ≤ 20) (h : csOk n L O R Th m s) (ha : 0 ≤ a ∧ a < n) (hb : csH n b) : csCl n L O R Th m s (21 * a + b) = 0 ↔ csNo n (csB0 L O R Th m s) s a b := by
  rw [csCl_v hn ha hb]
  by_cases w : csY n (csB0 L O R Th m s) a b
  · rw [pif_t w]; exact ⟨fun q => absurd q (by decide), fun q => (csNo_x h (csH_l ha.1 ha.2) hb w q).elim⟩
  · rw [pif_f w]
    by_cases v : csNo n (csB0 L O R Th m s) s a b
    · rw [pif_t v]; exact ⟨fun _ => v, fun _ => rfl⟩
    · rw [pif_f v]; exact ⟨fun q => csNo_r ha hb q, fun q => absurd q v⟩
theorem csCl_2 (hn : n ≤ 20) (h : csOk n L O R Th m s) (ha : 0 ≤ a ∧ a < n) (hb : csH n b) : csCl n L O R Th m s (21 * a + b) = 2 ↔ s (21 * a + b) = 2 ∧ ¬ csY n (csB0 L O R Th m s) a b ∧ ¬ csNo n (csB0 L O R Th m s) s a b := by
  rw [csCl_v hn ha hb]
  by_cases w : csY n (csB0 L O R Th m s) a b
  · rw [pif_t w]; exact ⟨fun q => absurd q (by decide), fun q => absurd w q.2.1⟩
  · rw [pif_f w]
    by_cases v : csNo n (csB0 L O R Th m s) s a b
    · rw [pif_t v]; exact ⟨fun q => absurd q (by decide), fun q => absurd v q.2.2⟩
    · rw [pif_f v]; exact ⟨fun q => ⟨q, w, v⟩, fun q => q.1⟩
theorem csCl_B (hn : n ≤ 20) (h : csOk n L O R Th m s) (ha : csH n a) (hb : csH n b) : csB (csCl n L O R Th m s) a b ↔ csY n (csB0 L O R Th m s) a b := by
  by_cases c20 : a = 20
  · rw [c20]; exact ⟨fun _ => csY_b csH_20 hb (Or.inr (Or.inl rfl)), fun _ => Or.inl rfl⟩
  · have a1 : 0 ≤ a ∧ a < n := by unfold csH at ha; omega
    exact ⟨fun w => (csCl_1 hn h a1 hb).mp (w.elim (fun q => absurd q c20) id), fun w => Or.inr ((csCl_1 hn h a1 hb).mpr w)⟩
/-- what was closed is closed -/
theorem csK_cl (hn : n ≤ 20) (h : csOk n L O R Th m s) : csK n L O R Th m (csCl n L O R Th m s) := by
  have up : ∀ a b, csH n a → csH n b → csY n (csB0 L O R Th m (csCl n L O R Th m s)) a b → csY n (csB0 L O R Th m s) a b := fun a b _ _ w => csY_m (fun x y hx hy v => by
    rcases v with v | v | v | v
    · exact csY_b hx hy (Or.inl v)
    · exact csY_b hx hy (Or.inr (Or.inl v))
    · exact (csCl_B hn h hx hy).mp (Or.inr v)
    · exact csY_b hx hy (Or.inr (Or.inr (Or.inr v)))) w
  refine ⟨fun a b ha hb w => (csCl_B hn h ha hb).mpr (up a b ha hb w), fun a b ha hb w => ?_⟩
  obtain ⟨a', b', ⟨h1, h2⟩, h3, h4, h5⟩ := w
  obtain ⟨a2, b2, ⟨g1, g2⟩, g3, g4, g5⟩ := (csCl_0 hn h h1 h2).mp h3
  have u4 := up _ _ (csH_l h1.1 h1.2) (csH_l ha.1 ha.2) h4
  have u5 := up _ _ hb h2 h5
  exact (csCl_0 hn h ha hb).mpr ⟨a2, b2, ⟨g1, g2⟩, g3, csY_t (csH_l g1.1 g1.2) (csH_l h1.1 h1.2) (csH_l ha.1 ha.2) g4 u4, csY_t hb h2 g2 u5 g5⟩
theorem csK_r (h : csK n L O R Th m s) (ha : csH n a) : csB s a a := h.1 a a ha ha (csY_b ha ha (Or.inl rfl))
theorem csK_t (h : csK n L O R Th m s) (ha : csH n a) (hb : csH n b) (hc : csH n c) (w : csB s a b) (v : csB s b c) : csB s a c := by
  have t : ∀ x y, csB s x y → csB0 L O R Th m s x y := fun x y w => w.elim (fun q => Or.inr (Or.inl q)) (fun q => Or.inr (Or.inr (Or.inl q)))
  exact h.1 a c ha hc (csY_t ha hb hc (csY_b ha hb (t _ _ w)) (csY_b hb hc (t _ _ v)))
theorem CCS_close {post : (Nat → Int → Int) → Prop} (S : swF kd an mX29_axioms mX29_reasoner mX29_things mX29_above mX29_not mX29_open mX29_under mX30_fired mX30_this_0 A) (T : swA kd an ar mX61_left mX61_right mX61_gone mJ2_elementData mJ2_size (sa 0) (A 1) L O R Th n m e fx) (en : mX29_classes (A 0) = n)
    (hA : swR (ai (A 4)) (fun a b => csH n a ∧ csH n b ∧ (a = b ∨ a = 20 ∨ s (21 * a + b) = 1))) (hN : swR2 (ai (A 5)) (fun a b => a < n ∧ csH n b ∧ s (21 * a + b) = 0)) (hO : swR2 (ai (A 6)) (fun a b => a < n ∧ csH n b ∧ s (21 * a + b) = 2)) (hok : csOk n L O R Th m s)
    (hp : ∀ ai', swE ai ai' (fun a => a = A 4 ∨ a = A 5 ∨ a = A 6 ∨ a = A 7) → swS n (csCl n L O R Th m s) (ai' (A 4)) (ai' (A 5)) (ai' (A 6)) (ai' (A 7)) → post ai') : wpCS_X29_close post kd an ai ar mX29_axioms mX29_classes mX29_above mX29_not mX29_open mX29_under mX61_left mX61_right mX61_gone mJ2_elementData mJ2_size (A 0) := by
  obtain ⟨t1, t2, t3, t4, t5, hn⟩ := id T
  have dj : ∀ i j, 3 ≤ i → i ≤ 8 → 3 ≤ j → j ≤ 8 → i ≠ j → A i ≠ A j := S.2.2.2.2
  have n54 : A 5 ≠ A 4 := dj 5 4 (by decide) (by decide) (by decide) (by decide) (by decide)
  have n64 : A 6 ≠ A 4 := dj 6 4 (by decide) (by decide) (by decide) (by decide) (by decide)
  have n57 : A 5 ≠ A 7 := dj 5 7 (by decide) (by decide) (by decide) (by decide) (by decide)
  have n67 : A 6 ≠ A 7 := dj 6 7 (by decide) (by decide) (by decide) (by decide) (by decide)
  have n47 : A 4 ≠ A 7 := dj 4 7 (by decide) (by decide) (by decide) (by decide) (by decide)
  have n45 : A 4 ≠ A 5 := dj 4 5 (by decide) (by decide) (by decide) (by decide) (by decide)
  have n65 : A 6 ≠ A 5 := dj 6 5 (by decide) (by decide) (by decide) (by decide) (by decide)
  have n75 : A 7 ≠ A 5 := dj 7 5 (by decide) (by decide) (by decide) (by decide) (by decide)
  have n46 : A 4 ≠ A 6 := dj 4 6 (by decide) (by decide) (by decide) (by decide) (by decide)
  have n56 : A 5 ≠ A 6 := dj 5 6 (by decide) (by decide) (by decide) (by decide) (by decide)
  have n76 : A 7 ≠ A 6 := dj 7 6 (by decide) (by decide) (by decide) (by decide) (by decide)
  unfold wpCS_X29_close
  refine CCS_tl2 S T hA (fun a1 E1 R1 => ?_)
  refine CCS_l61 (B := csB0 L O R Th m s) S en hn (fun b hb => Or.inr (Or.inl rfl)) R1 (fun a b => ⟨fun w => ?_, fun w => ?_⟩) (fun a2 Y E2 R2 hY => ?_)
  · rcases w with w | w
    · exact ⟨w.1, w.2.1, w.2.2.elim Or.inl (fun q => Or.inr (q.elim Or.inl (fun q => Or.inr (Or.inl q))))⟩
    · obtain ⟨j, hj, w1, w2, w3, w4⟩ := id w
      have q := t4 j hj.1 hj.2
      rw [w2, w4] at q
      exact ⟨csH_l q.1.1 q.1.2, q.2.2, Or.inr (Or.inr (Or.inr w))⟩
  · rcases w.2.2 with q | q | q | q
    · exact Or.inl ⟨w.1, w.2.1, Or.inl q⟩
    · exact Or.inl ⟨w.1, w.2.1, Or.inr (Or.inl q)⟩
    · exact Or.inl ⟨w.1, w.2.1, Or.inr (Or.inr q)⟩
    · exact Or.inr q
  have hB : ∀ a b, Y a b → csH n a ∧ csH n b := fun a b w => ⟨((hY a b).mp w).1, ((hY a b).mp w).2.1⟩
  have hT : ∀ a b c, Y a b → Y b c → Y a c := fun a b c u v => by
    have u' := (hY a b).mp u
    have v' := (hY b c).mp v
    exact (hY a c).mpr ⟨u'.1, v'.2.1, csY_t u'.1 u'.2.1 v'.2.1 u'.2.2 v'.2.2⟩
  have hr : ∀ a, csH n a → Y a a := fun a ha => (hY a a).mpr ⟨ha, ha, csY_b ha ha (Or.inl rfl)⟩
  refine CCS_turn S hn R2 hB (fun a3 E3 R3 => ?_)
  have R3' : swR (a3 (A 4)) Y := by rw [E3 _ n47]; exact R2
  have N3 : swR2 (a3 (A 5)) (fun a b => a < n ∧ csH n b ∧ s (21 * a + b) = 0) := by rw [E3 _ n57, E2 _ n54, E1 _ n54]; exact hN
  have N3' : swR2 (a3 (A 5)) (fun a b => (0 ≤ a ∧ a < n) ∧ csH n b ∧ s (21 * a + b) = 0) := swR2_c N3 (fun a a0 _ b _ _ => ⟨fun w => ⟨⟨a0, w.1⟩, w.2⟩, fun w => ⟨w.1.2, w.2⟩⟩)
  refine CCS_l123 S en hn R3' R3 hB hT hr N3' (fun a b w => ⟨w.1, w.2.1⟩) (fun a4 X E4 R4 hX => ?_)
  have R4' : swR (a4 (A 4)) Y := by rw [E4 _ n45]; exact R3'
  have U4 : swR (a4 (A 7)) (fun b c => Y c b) := by rw [E4 _ n75]; exact R3
  have O4 : swR2 (a4 (A 6)) (fun a b => a < n ∧ csH n b ∧ s (21 * a + b) = 2) := by rw [E4 _ n65, E3 _ n67, E2 _ n64, E1 _ n64]; exact hO
  refine CCS_l219 S en hn R4' R4 O4 (fun a5 E5 R5 => ?_)
  have no : ∀ a b, X a b ↔ (0 ≤ a ∧ a < n) ∧ csH n b ∧ csNo n (csB0 L O R Th m s) s a b := fun a b => (hX a b).trans ⟨fun ⟨w1, w2, a', b', u1, u2, u3⟩ => ⟨w1, w2, a', b', ⟨u1.1, u1.2.1⟩, u1.2.2, ((hY _ _).mp u2).2.2, ((hY _ _).mp u3).2.2⟩, fun ⟨w1, w2, a', b', ⟨u1, u2⟩, u3, u4, u5⟩ => ⟨w1, w2, a', b', ⟨u1, u2, u3⟩, (hY _ _).mpr ⟨csH_l u1.1 u1.2, csH_l w1.1 w1.2, u4⟩, (hY _ _).mpr ⟨w2, u2, u5⟩⟩⟩
  refine hp a5 (fun a ha => ?_) ⟨fun a a0 a1 => ?_, fun a a0 a1 => ?_, fun a a0 a1 => ?_, fun b b0 b1 => ?_⟩
  · rw [E5 a (fun q => ha (Or.inr (Or.inr (Or.inl q)))), E4 a (fun q => ha (Or.inr (Or.inl q))), E3 a (fun q => ha (Or.inr (Or.inr (Or.inr q)))), E2 a (fun q => ha (Or.inl q)), E1 a (fun q => ha (Or.inl q))]
  · rw [E5 _ n46]
    refine mS_c (R4' a a0 a1) (fun b _ _ => (hY a b).trans ⟨fun w => ⟨w.1, w.2.1, (csCl_B hn.2 hok w.1 w.2.1).mpr w.2.2⟩, fun w => ⟨w.1, w.2.1, (csCl_B hn.2 hok w.1 w.2.1).mp w.2.2⟩⟩)
  · rw [E5 _ n56]
    refine mS_c (R4 a a0 a1) (fun b _ _ => (no a b).trans ⟨fun w => ⟨w.1.2, w.2.1, (csCl_0 hn.2 hok w.1 w.2.1).mpr w.2.2⟩, fun w => ⟨⟨a0, w.1⟩, w.2.1, (csCl_0 hn.2 hok ⟨a0, w.1⟩ w.2.1).mp w.2.2⟩⟩)
  · refine mS_c (R5 a a0 a1) (fun b _ _ => ⟨fun w => ⟨w.1.1, w.1.2.1, (csCl_2 hn.2 hok ⟨a0, w.1.1⟩ w.1.2.1).mpr ⟨w.1.2.2, fun q => w.2 ⟨w.1.1, Or.inl ((hY a b).mpr ⟨csH_l a0 w.1.1, w.1.2.1, q⟩)⟩, fun q => w.2 ⟨w.1.1, Or.inr ((no a b).mpr ⟨⟨a0, w.1.1⟩, w.1.2.1, q⟩)⟩⟩⟩, fun w => ?_⟩)
    have v := (csCl_2 hn.2 hok ⟨a0, w.1⟩ w.2.1).mp w.2.2
    refine ⟨⟨w.1, w.2.1, v.1⟩, fun q => q.2.elim (fun q => v.2.1 ((hY a b).mp q).2.2) (fun q => v.2.2 ((no a b).mp q).2.2)⟩
  · rw [E5 _ n76]
    refine mS_c (U4 b b0 b1) (fun c _ _ => (hY c b).trans ⟨fun w => ⟨w.1, w.2.1, (csCl_B hn.2 hok w.1 w.2.1).mpr w.2.2⟩, fun w => ⟨w.1, w.2.1, (csCl_B hn.2 hok w.1 w.2.1).mp w.2.2⟩⟩)
end

/-! ClassifySort, the component (room CS): what an axiom touches; the reasoner -/
section
variable {kd : Nat → Nat} {an : Nat → Nat} {ai : Nat → Int → Int} {al : Nat → Int → Int} {ar : Nat → Int → Option Nat} {mX29_axioms : Nat → Option Nat} {mX29_reasoner : Nat → Option Nat} {mX29_classes : Nat → Int} {mX29_things : Nat → Option Nat} {mX29_thingCount : Nat → Int} {mX29_fuel : Nat → Int} {mX29_above : Nat → Option Nat} {mX29_not : Nat → Option Nat} {mX29_open : Nat → Option Nat} {mX29_under : Nat → Option Nat} {mX29_sorted : Nat → Int} {mX29_placed : Nat → Int} {mX29_empties : Nat → Int} {mX29_asked : Nat → Int} {mX30_fired : Nat → Option Nat} {mX30_many : Nat → Int} {mX30_facts : Nat → Int} {mX30_this_0 : Nat → Option Nat} {mX61_left : Nat → Int} {mX61_right : Nat → Int} {mX61_gone : Nat → Int} {mJ1_modCount : Nat → Int} {mJ2_elementData : Nat → Option Nat} {mJ2_size : Nat → Int} {sa : Nat → Nat} {A : Nat → Nat} {L O R Th s fa : Int → Int} {n m f g x y i k c a b : Int} {e : Nat} {fx : Int → Nat} {P Q : Int → Prop}
/-- axiom k meets P -/
def swMt (L O : Int → Int) (P : Int → Prop) (k : Int) : Prop := P (L k) ∨ (0 ≤ O k ∧ P (O k))
theorem swMt_i {lf x : Int} (hl : mS lf (fun c => c = L k ∨ (0 ≤ O k ∧ c = O k))) (hx : mS x P) (h0 : 0 ≤ L k ∧ L k < 32) (h1 : O k < 32) : zand lf x = 0 ↔ ¬ swMt L O P k := by
  rw [mS_dj hl hx]
  constructor
  · intro h w
    rcases w with w | w
    · exact h _ h0.1 h0.2 ⟨Or.inl rfl, w⟩
    · exact h _ w.1 h1 ⟨Or.inr ⟨w.1, rfl⟩, w.2⟩
  · intro h c c0 c1 w
    rcases w.1 with q | q
    · exact h (Or.inl (by rw [← q]; exact w.2))
    · exact h (Or.inr ⟨q.1, by rw [← q.2]; exact w.2⟩)
theorem CCS_mod16 {K : Int → Prop} {v : Int} (S : swF kd an mX29_axioms mX29_reasoner mX29_things mX29_above mX29_not mX29_open mX29_under mX30_fired mX30_this_0 A) (T : swA kd an ar mX61_left mX61_right mX61_gone mJ2_elementData mJ2_size (sa 0) (A 1) L O R Th n m e fx) (hv : mS v P) (hP : ∀ c, P c → csM L O R Th m a c ∧ c ≤ 20)
    (hp : ∀ v' P', mS v' P' → (∀ c, P' c → csM L O R Th m a c ∧ c ≤ 20) → (∀ c, P c → P' c) → (∀ k, 0 ≤ k → k < m → ¬ Th k = 0 → swMt L O P k → P' (L k) ∧ (0 ≤ O k → P' (O k)) ∧ P' (R k)) → K v') : ∃ fu, wCS_X29_module_16 K (A 0) kd an ar mX29_axioms mX61_left mX61_right mX61_gone mJ2_elementData mJ2_size fu v 0 := by
  obtain ⟨t1, t2, t3, t4, t5, t6⟩ := id T
  refine wl2 (fun d v k => wCS_X29_module_16 K (A 0) kd an ar mX29_axioms mX61_left mX61_right mX61_gone mJ2_elementData mJ2_size d v k) (fun v' k => (0 ≤ k ∧ k ≤ m) ∧ ∃ P', mS v' P' ∧ (∀ c, P' c → csM L O R Th m a c ∧ c ≤ 20) ∧ (∀ c, P c → P' c) ∧ ∀ j, 0 ≤ j → j < k → ¬ Th j = 0 → swMt L O P j → P' (L j) ∧ (0 ≤ O j → P' (O j)) ∧ P' (R j)) (fun _ k => (m - k).toNat) ?_ v 0 ⟨by omega, P, hv, hP, fun _ w => w, fun j j0 j1 => by omega⟩
  rintro v' k ⟨hk, P', h1, h2, h3, h4⟩ d ih
  rw [wCS_X29_module_16]
  unfold wpCS_J2_size
  refine kOn_of S.1.1 ⟨S.2.1.2.1, ?_⟩
  rw [t1.2.1]
  refine ⟨fun z => hp v' P' h1 h2 h3 (fun j j0 j1 => h4 j j0 (by omega)), fun z => CCS_lget t1 hk.1 (by omega) (kOn_some ⟨(t2 k hk.1 (by omega)).1, ?_⟩)⟩
  obtain ⟨a1, a2, a3, a4, a5⟩ := t2 k hk.1 (by omega)
  obtain ⟨y1, y2, y3⟩ := t4 k hk.1 (by omega)
  have r20 := csH_b t6.2 y3
  rw [swMt_i a4 h1 ⟨y1.1, by omega⟩ (by omega), a2]
  refine ⟨fun g0 => ⟨fun nm => ⟨by omega, fun _ e1 => ?_⟩, fun mt => ⟨⟨r20.1, by omega⟩, fun _ e2 => ⟨by omega, fun _ e1 => ?_⟩⟩⟩, fun g1 => ⟨by omega, fun _ e1 => ?_⟩⟩
  · subst e1
    refine ih _ _ ⟨by omega, P', h1, h2, h3, fun j j0 j1 w v => ?_⟩ (by omega)
    by_cases q : j = k
    · rw [q] at v
      exact absurd (v.imp (fun u => h3 _ u) (fun u => ⟨u.1, h3 _ u.2⟩)) nm
    · exact h4 j j0 (by omega) w v
  · have mt := Classical.not_not.mp mt
    have th := a3.mp g0
    subst e1 e2
    refine ih _ _ ⟨by omega, fun c => P' c ∨ ((c = L k ∨ (0 ≤ O k ∧ c = O k)) ∨ c = R k), mS_or h1 (mS_or a4 (mS_one ⟨r20.1, by omega⟩)), fun c w => ?_, fun c w => Or.inl (h3 c w), fun j j0 j1 w v => ?_⟩ (by omega)
    · have cm := csM_k (a := a) hk.1 (by omega : k < m) th (mt.imp (fun u => (h2 _ u).1) (fun u => ⟨u.1, (h2 _ u.2).1⟩))
      rcases w with w | (w | w) | w
      · exact h2 c w
      · rw [w]; exact ⟨cm.1, by omega⟩
      · rw [w.2]; exact ⟨cm.2.1 w.1, by omega⟩
      · rw [w]; exact ⟨cm.2.2, r20.2⟩
    · by_cases q : j = k
      · rw [q]
        exact ⟨Or.inr (Or.inl (Or.inl rfl)), fun o => Or.inr (Or.inl (Or.inr ⟨o, rfl⟩)), Or.inr (Or.inr rfl)⟩
      · have u := h4 j j0 (by omega) w v
        exact ⟨Or.inl u.1, fun o => Or.inl (u.2.1 o), Or.inl u.2.2⟩
  · subst e1
    refine ih _ _ ⟨by omega, P', h1, h2, h3, fun j j0 j1 w v => ?_⟩ (by omega)
    have : j ≠ k := fun q => g1 (a3.mpr (by rw [← q]; exact w))
    exact h4 j j0 (by omega) w v
theorem CCS_module {post : Int → Prop} (S : swF kd an mX29_axioms mX29_reasoner mX29_things mX29_above mX29_not mX29_open mX29_under mX30_fired mX30_this_0 A) (T : swA kd an ar mX61_left mX61_right mX61_gone mJ2_elementData mJ2_size (sa 0) (A 1) L O R Th n m e fx) (ha : 0 ≤ a ∧ a ≤ 20)
    (hp : ∀ v P, mS v P → (∀ c, P c ↔ csM L O R Th m a c ∧ c ≤ 20) → post v) : wpCS_X29_module post kd an ar mX29_axioms mX61_left mX61_right mX61_gone mJ2_elementData mJ2_size (A 0) a := by
  obtain ⟨t1, t2, t3, t4, t5, t6⟩ := id T
  unfold wpCS_X29_module
  refine ⟨⟨ha.1, by omega⟩, fun v0 e0 => ?_⟩
  have m0 : mS v0 (fun c => c = a) := by rw [e0]; exact mS_one ⟨ha.1, by omega⟩
  refine wl2 (fun d x2 x3 => wCS_X29_module_6 _ (A 0) kd an ar mX29_axioms mX61_left mX61_right mX61_gone mJ2_elementData mJ2_size d x2 x3) (fun x2 x3 => ∃ P, mS x2 P ∧ (∀ c, P c → csM L O R Th m a c ∧ c ≤ 20) ∧ P a ∧ (x3 = x2 → ∀ k, 0 ≤ k → k < m → ¬ Th k = 0 → swMt L O P k → P (L k) ∧ (0 ≤ O k → P (O k)) ∧ P (R k))) (fun x2 x3 => (2 * cntI (fun c => ¬ zb x2 c.toNat = 1) 32 + (if x3 = x2 then 0 else 1)).toNat) ?_ v0 0 ⟨fun c => c = a, m0, fun c w => by rw [w]; exact ⟨csM_s, ha.2⟩, rfl, fun z => absurd rfl ((mS_z m0).mp z.symm a ha.1 (by omega))⟩
  rintro x2 x3 ⟨P, h1, h2, h3, h4⟩ d ih
  have c1 : cntI (fun c => ¬ zb x2 c.toNat = 1) 32 = cntI (fun c => ¬ P c) 32 := cntI_c (fun i i0 i1 => ⟨fun w v => w ((h1.2 i i0 (by omega)).mpr v), fun w v => w ((h1.2 i i0 (by omega)).mp v)⟩)
  have b1 := cntI_b (fun c => ¬ P c) 32
  rw [wCS_X29_module_6]
  refine ⟨fun z => hp x2 P h1 (fun c => ⟨h2 c, fun w => ?_⟩), fun z => CCS_mod16 (a := a) S T h1 h2 (fun v' P' g1 g2 g3 g4 => ?_)⟩
  · exact w.1 P h3 (fun k k0 k1 t u => h4 z k k0 k1 t u)
  · have c2 : cntI (fun c => ¬ zb v' c.toNat = 1) 32 = cntI (fun c => ¬ P' c) 32 := cntI_c (fun i i0 i1 => ⟨fun w v => w ((g1.2 i i0 (by omega)).mpr v), fun w v => w ((g1.2 i i0 (by omega)).mp v)⟩)
    refine ih _ _ ⟨P', g1, g2, g3 _ h3, fun q k k0 k1 t u => g4 k k0 k1 t ?_⟩ ?_
    · have back : ∀ c, 0 ≤ c → c < 32 → P' c → P c := fun c c0 c1 w => (h1.2 c c0 c1).mp (by rw [q]; exact (g1.2 c c0 c1).mpr w)
      obtain ⟨y1, y2, y3⟩ := t4 k k0 k1
      exact u.imp (fun u => back _ y1.1 (by omega) u) (fun u => ⟨u.1, back _ u.1 (by omega) u.2⟩)
    · show (2 * cntI (fun c => ¬ zb v' c.toNat = 1) 32 + (if x2 = v' then 0 else 1)).toNat < (2 * cntI (fun c => ¬ zb x2 c.toNat = 1) 32 + (if x3 = x2 then 0 else 1)).toNat
      rw [c1, c2, if_neg z]
      have b2 := cntI_b (fun c => ¬ P' c) 32
      by_cases q : x2 = v'
      · rw [if_pos q]
        have : cntI (fun c => ¬ P c) 32 = cntI (fun c => ¬ P' c) 32 := by rw [← c1, ← c2, q]
        omega
      · rw [if_neg q]
        have := mS_miss h1 g1 (fun k _ _ w => g3 k w) q
        omega
/-- the axiom at x touches them -/
theorem CCS_touched {post : Int → Prop} (S : swF kd an mX29_axioms mX29_reasoner mX29_things mX29_above mX29_not mX29_open mX29_under mX30_fired mX30_this_0 A) (T : swA kd an ar mX61_left mX61_right mX61_gone mJ2_elementData mJ2_size (sa 0) (A 1) L O R Th n m e fx) (en : mX29_classes (A 0) = n) (hx : 0 ≤ x ∧ x < m)
    (hp : ∀ v, mS v (fun c => (0 ≤ c ∧ c < n) ∧ csTc L O R Th m c x) → post v) : wpCS_X29_touched post kd an ar mX29_axioms mX29_classes mX61_left mX61_right mX61_gone mJ2_elementData mJ2_size (A 0) (some (fx x)) := by
  obtain ⟨t1, t2, t3, t4, t5, t6⟩ := id T
  obtain ⟨a1, a2, a3, a4, a5⟩ := t2 x hx.1 hx.2
  obtain ⟨y1, y2, y3⟩ := t4 x hx.1 hx.2
  unfold wpCS_X29_touched
  refine wl2 (fun d v k => wCS_X29_touched_4 _ (A 0) (some (fx x)) kd an ar mX29_axioms mX29_classes mX61_left mX61_right mX61_gone mJ2_elementData mJ2_size d v k) (fun v k => (0 ≤ k ∧ k ≤ n) ∧ mS v (fun c => (0 ≤ c ∧ c < k) ∧ csTc L O R Th m c x)) (fun _ k => (n - k).toNat) ?_ 0 0 ⟨by omega, mS_c mS_0 (fun c c0 _ => ⟨fun w => w.elim, fun w => by omega⟩)⟩
  rintro v k ⟨hk, hv⟩ d ih
  rw [wCS_X29_touched_4, en]
  refine ⟨fun z => hp v (by have : k = n := by omega
                            rw [this] at hv; exact hv), fun z => CCS_module (a := k) S T ⟨hk.1, by omega⟩ (fun v' P' g1 g2 => kOn_some ⟨a1, ?_⟩)⟩
  have mt : zand v' (mX61_left (fx x)) = 0 ↔ ¬ csTc L O R Th m k x := by
    rw [mS_dj g1 a4]
    constructor
    · intro h w
      rcases w with w | w
      · exact h _ y1.1 (by omega) ⟨(g2 _).mpr ⟨w, by omega⟩, Or.inl rfl⟩
      · exact h _ w.1 (by omega) ⟨(g2 _).mpr ⟨w.2, by omega⟩, Or.inr ⟨w.1, rfl⟩⟩
    · intro h c c0 c1 w
      have u := ((g2 c).mp w.1).1
      rcases w.2 with q | q
      · exact h (Or.inl (by rw [← q]; exact u))
      · exact h (Or.inr ⟨q.1, by rw [← q.2]; exact u⟩)
  rw [mt]
  refine ⟨fun nt _ e1 => ⟨by omega, fun _ e2 => ?_⟩, fun t => ⟨⟨hk.1, by omega⟩, fun _ e1 => ⟨by omega, fun _ e2 => ?_⟩⟩⟩
  · subst e1 e2
    refine ih _ _ ⟨by omega, mS_c (mS_or hv mS_0) (fun c _ _ => ⟨fun w => ?_, fun w => Or.inl ⟨⟨w.1.1, ?_⟩, w.2⟩⟩)⟩ (by omega)
    · rcases w with w | w
      · exact ⟨by omega, w.2⟩
      · exact w.elim
    · have : c ≠ k := fun q => nt (by rw [← q]; exact w.2)
      omega
  · have t := Classical.not_not.mp t
    subst e1 e2
    refine ih _ _ ⟨by omega, mS_c (mS_or hv (mS_one ⟨hk.1, by omega⟩)) (fun c _ _ => ⟨fun w => ?_, fun w => ?_⟩)⟩ (by omega)
    · rcases w with w | w
      · exact ⟨by omega, w.2⟩
      · rw [w]; exact ⟨by omega, t⟩
    · by_cases q : c = k
      · exact Or.inr q
      · exact Or.inl ⟨by omega, w.2⟩
/-! the reasoner -/
theorem CCS_nx {post : Int → Prop} (S : swF kd an mX29_axioms mX29_reasoner mX29_things mX29_above mX29_not mX29_open mX29_under mX30_fired mX30_this_0 A) (T : swA kd an ar mX61_left mX61_right mX61_gone mJ2_elementData mJ2_size (sa 0) (A 1) L O R Th n m e fx) (hF : mS (mX30_facts (A 2)) (fun c => c ≤ 20 ∧ ¬ fa c = 0))
    (hp : post (if csNx L O R Th m fa = m then -1 else csNx L O R Th m fa)) : wpCS_X30_next post kd an ar mX29_axioms mX30_facts mX30_this_0 mX61_left mX61_right mX61_gone mJ2_elementData mJ2_size (A 2) := by
  obtain ⟨t1, t2, t3, t4, t5, t6⟩ := id T
  have N := csNx_s (L := L) (O := O) (R := R) (Th := Th) (fa := fa) t5.1
  unfold wpCS_X30_next
  refine zl1 (fun d k => wCS_X30_next_2 _ _ (A 2) kd an ar mX29_axioms mX30_facts mX30_this_0 mX61_left mX61_right mX61_gone mJ2_elementData mJ2_size d k) (fun k => 0 ≤ k ∧ ∀ j, 0 ≤ j → j < k → ¬ csFi L O R Th fa j) m ?_ ⟨by decide, fun j j0 j1 => by omega⟩ t5.1
  rintro d k ⟨k0, hk⟩ km ih
  rw [wCS_X30_next_2]
  unfold wpCS_J2_size
  refine kOn_of S.1.2.2.2.2.2.2.2.2 ⟨S.2.1.1, kOn_of S.1.1 ⟨S.2.1.2.1, ?_⟩⟩
  rw [t1.2.1]
  refine ⟨fun z => ?_, fun z => CCS_lget t1 k0 (by omega) (kOn_some ⟨(t2 k k0 (by omega)).1, CCS_canFireB T hF k0 (by omega) (fun w => ?_) (fun w => ⟨by omega, fun _ e1 => ?_⟩)⟩)⟩
  · have : csNx L O R Th m fa = m := Classical.byContradiction (fun q => hk _ N.1.1 (by omega) (N.2.1 (by omega)))
    rw [if_pos this] at hp; exact hp
  · have : csNx L O R Th m fa = k := by
      have u := N.1
      have v : ¬ csNx L O R Th m fa < k := fun q => hk _ u.1 q (N.2.1 (by omega))
      have v2 : ¬ k < csNx L O R Th m fa := fun q => N.2.2 k k0 q w
      omega
    rw [this, if_neg (by omega)] at hp; exact hp
  · subst e1
    refine ih (by omega) ⟨by omega, fun j j0 j1 => ?_⟩
    by_cases q : j = k
    · rw [q]; exact w
    · exact hk j j0 (by omega)
theorem CCS_l10 {K0 K2 K1 : (Nat → Int → Int) → (Nat → Int) → (Nat → Int) → Prop} (S : swF kd an mX29_axioms mX29_reasoner mX29_things mX29_above mX29_not mX29_open mX29_under mX30_fired mX30_this_0 A) (T : swA kd an ar mX61_left mX61_right mX61_gone mJ2_elementData mJ2_size (sa 0) (A 1) L O R Th n m e fx) (ef : mX29_fuel (A 0) = f) (hf : 0 ≤ f ∧ f ≤ 20) (hg : 0 ≤ g ∧ g ≤ 20) :
    ∀ (d : Nat) (fa : Int → Int) (l : List Int) (ai : Nat → Int → Int) (mX30_many mX30_facts : Nat → Int), csMF fa < d → (l.length : Int) ≤ f → vtQ (ai (A 8)) 0 l → mX30_many (A 2) = l.length → mS (mX30_facts (A 2)) (fun c => c ≤ 20 ∧ ¬ fa c = 0) → (∀ k, k ∈ l → 0 ≤ k ∧ k < m) →
    (∀ r fa' l' ai' (ma fc : Nat → Int), csRun L O R Th m f g d fa l = (r, fa', l') → swE ai ai' (fun a => a = A 8) → vtQ (ai' (A 8)) 0 l' → ma (A 2) = l'.length → (∀ k, k ∈ l' → 0 ≤ k ∧ k < m) → (r = 0 → K0 ai' ma fc) ∧ (r = 2 → K2 ai' ma fc) ∧ (r = 1 → K1 ai' ma fc)) →
    ∃ fu, wCS_X30_answer_10 K0 K2 K1 (A 2) g kd an ar mX29_axioms mX29_fuel mX30_fired mX30_this_0 mX61_left mX61_right mX61_gone mJ2_elementData mJ2_size fu ai mX30_many mX30_facts
  | 0, fa, l, ai, mX30_many, mX30_facts, hd, _, _, _, _, _, _ => by
    have := cntI_b (fun c => fa c = 0) 21
    unfold csMF at hd
    omega
  | d + 1, fa, l, ai, mX30_many, mX30_facts, hd, hl, hq, hm, hF, hb, hp => by
    obtain ⟨t1, t2, t3, t4, t5, t6⟩ := id T
    have N := csNx_s (L := L) (O := O) (R := R) (Th := Th) (fa := fa) t5.1
    have l8 : (an (A 8) : Int) = 20 := by rw [S.2.2.2.1.2.2.2.2.2]; rfl
    have run : csRun L O R Th m f g (d + 1) fa l = pif (¬ fa g = 0 ∨ ¬ fa 20 = 0) (1, fa, l) (pif (csNx L O R Th m fa = m) (0, fa, l) (pif ((l.length : Int) = f) (2, fa, l) (csRun L O R Th m f g d (updI fa (R (csNx L O R Th m fa)) 1) (l ++ [csNx L O R Th m fa])))) := rfl
    have yes : (¬ fa g = 0 ∨ ¬ fa 20 = 0) → K1 ai mX30_many mX30_facts := fun w => by
      rw [pif_t w] at run
      exact (hp _ _ _ ai mX30_many mX30_facts run (fun _ _ => rfl) hq hm hb).2.2 rfl
    -- one more step
    by_cases w : ¬ fa g = 0 ∨ ¬ fa 20 = 0
    · refine ⟨1, ?_⟩
      rw [wCS_X30_answer_10]
      refine CCS_hasB hF hg.1 (by omega) (fun _ => yes w) (fun v => CCS_hasB hF (by decide) (by decide) (fun _ => yes w) (fun v2 => ?_))
      exact absurd w (fun w => w.elim (fun q => v ⟨hg.2, q⟩) (fun q => v2 ⟨by decide, q⟩))
    have ng : ¬ (g ≤ 20 ∧ ¬ fa g = 0) := fun q => w (Or.inl q.2)
    have n20 : ¬ ((20 : Int) ≤ 20 ∧ ¬ fa 20 = 0) := fun q => w (Or.inr q.2)
    rw [pif_f w] at run
    by_cases w2 : csNx L O R Th m fa = m
    · rw [pif_t w2] at run
      refine ⟨1, ?_⟩
      rw [wCS_X30_answer_10]
      refine CCS_hasB hF hg.1 (by omega) (fun q => absurd q ng) (fun _ => CCS_hasB hF (by decide) (by decide) (fun q => absurd q n20) (fun _ => CCS_nx S T hF ?_))
      rw [if_pos w2]
      exact ⟨fun q => absurd q (by decide), fun _ => (hp _ _ _ ai mX30_many mX30_facts run (fun _ _ => rfl) hq hm hb).1 rfl⟩
    rw [pif_f w2] at run
    have nlt : csNx L O R Th m fa < m := by omega
    have F := N.2.1 nlt
    obtain ⟨a1, a2, a3, a4, a5⟩ := t2 _ N.1.1 nlt
    obtain ⟨y1, y2, y3⟩ := t4 _ N.1.1 nlt
    have r20 := csH_b t6.2 y3
    by_cases w3 : (l.length : Int) = f
    · rw [pif_t w3] at run
      refine ⟨1, ?_⟩
      rw [wCS_X30_answer_10]
      refine CCS_hasB hF hg.1 (by omega) (fun q => absurd q ng) (fun _ => CCS_hasB hF (by decide) (by decide) (fun q => absurd q n20) (fun _ => CCS_nx S T hF ?_))
      rw [if_neg w2, hm]
      exact ⟨fun _ => kOn_of S.1.2.2.2.2.2.2.2.2 ⟨S.2.1.1, by rw [ef]; exact ⟨fun _ => (hp _ _ _ ai mX30_many mX30_facts run (fun _ _ => rfl) hq hm hb).2.1 rfl, fun q => absurd w3 q⟩⟩, fun q => absurd N.1.1 q⟩
    rw [pif_f w3] at run
    have MF := csMF_dn (fa := fa) r20 F.2.2.2
    have E1 : mS (zor (mX30_facts (A 2)) (2 ^ (R (csNx L O R Th m fa)).toNat)) (fun c => c ≤ 20 ∧ ¬ updI fa (R (csNx L O R Th m fa)) 1 c = 0) := mS_c (mS_or hF (mS_one ⟨r20.1, by omega⟩)) (fun c _ _ => by
      by_cases q : c = R (csNx L O R Th m fa)
      · rw [q, updI_s]; exact ⟨fun _ => ⟨r20.2, by decide⟩, fun _ => Or.inr rfl⟩
      · rw [updI_n q]; exact ⟨fun u => u.elim id (fun u => absurd u q), Or.inl⟩)
    have rec_ := CCS_l10 (K0 := K0) (K2 := K2) (K1 := K1) S T ef hf hg d (updI fa (R (csNx L O R Th m fa)) 1) (l ++ [csNx L O R Th m fa]) (va_up ai (A 8) (updI (ai (A 8)) (l.length : Int) (csNx L O R Th m fa))) (va_up mX30_many (A 2) ((l.length : Int) + 1)) (va_up mX30_facts (A 2) (zor (mX30_facts (A 2)) (2 ^ (R (csNx L O R Th m fa)).toNat))) (by omega) (by rw [List.length_append]; simp only [List.length_cons, List.length_nil]; omega) (by rw [va_up_self]; have := vtQ_one (v := csNx L O R Th m fa) hq; rw [show (0 : Int) + (l.length : Int) = l.length by omega] at this; exact this) (by rw [va_up_self, List.length_append]; simp only [List.length_cons, List.length_nil]; omega) (by rw [va_up_self]; exact E1) (fun k hk => by
      rcases List.mem_append.mp hk with q | q
      · exact hb k q
      · rw [List.mem_singleton] at q; rw [q]; exact ⟨N.1.1, nlt⟩) (fun r fa' l' ai' ma fc er hE => hp r fa' l' ai' ma fc (run.trans er) (fun a ha => by rw [hE a ha, va_up_ne _ _ ha]))
    obtain ⟨fu, hfu⟩ := rec_
    refine ⟨fu + 1, ?_⟩
    rw [wCS_X30_answer_10]
    refine CCS_hasB hF hg.1 (by omega) (fun q => absurd q ng) (fun _ => CCS_hasB hF (by decide) (by decide) (fun q => absurd q n20) (fun _ => CCS_nx S T hF ?_))
    rw [if_neg w2]
    refine ⟨fun _ => kOn_of S.1.2.2.2.2.2.2.2.2 ⟨S.2.1.1, ?_⟩, fun q => absurd N.1.1 q⟩
    rw [ef, hm]
    refine ⟨fun q => absurd q w3, fun _ => kOn_of S.1.2.2.2.2.2.2.2.1 ⟨S.2.2.1 8 (by decide) (by decide), by omega, fun ai1 e1 => ⟨by omega, fun v2 e2 ma1 e3 => kOn_of S.1.1 ⟨S.2.1.2.1, CCS_lget t1 N.1.1 nlt (kOn_some ⟨a1, ?_⟩)⟩⟩⟩⟩
    rw [a2]
    refine ⟨⟨r20.1, by omega⟩, fun v3 e4 fc1 e5 => ?_⟩
    subst e1 e2 e3 e4 e5
    exact hfu
theorem CCS_answer {post : Int → (Nat → Int → Int) → (Nat → Int) → (Nat → Int) → Prop} {F : Int} (S : swF kd an mX29_axioms mX29_reasoner mX29_things mX29_above mX29_not mX29_open mX29_under mX30_fired mX30_this_0 A) (T : swA kd an ar mX61_left mX61_right mX61_gone mJ2_elementData mJ2_size (sa 0) (A 1) L O R Th n m e fx) (ef : mX29_fuel (A 0) = f) (hf : 0 ≤ f ∧ f ≤ 20) (hg : 0 ≤ g ∧ g ≤ 20) (hF : mS F (fun c => c ≤ 20 ∧ ¬ fa c = 0))
    (hp : ∀ r l' ai' (ma fc : Nat → Int), (csAn L O R Th m f g fa).1 = r → (csAn L O R Th m f g fa).2.2 = l' → swE ai ai' (fun a => a = A 8) → vtQ (ai' (A 8)) 0 l' → ma (A 2) = l'.length → (∀ k, k ∈ l' → 0 ≤ k ∧ k < m) → post r ai' ma fc) : wpCS_X30_answer post kd an ai ar mX29_axioms mX29_fuel mX30_fired mX30_many mX30_facts mX30_this_0 mX61_left mX61_right mX61_gone mJ2_elementData mJ2_size (A 2) F g := by
  unfold wpCS_X30_answer
  intro fc1 e1 ma1 e2
  subst e1 e2
  have b := cntI_b (fun c => fa c = 0) 21
  refine CCS_l10 S T ef hf hg 22 fa [] ai _ _ (by unfold csMF; omega) (by show (0 : Int) ≤ f; exact hf.1) (fun i hi => absurd hi (Nat.not_lt_zero i)) (by rw [va_up_self]; rfl) (by rw [va_up_self]; exact hF) (fun k hk => absurd hk (List.not_mem_nil)) (fun r fa' l' ai' ma fc er hE hq hm hb => ?_)
  have H := hp r l' ai' ma fc (by unfold csAn; rw [er]) (by unfold csAn; rw [er]) hE hq hm hb
  exact ⟨fun q => by rw [q] at H; exact H, fun q => by rw [q] at H; exact H, fun q => by rw [q] at H; exact H⟩
end

/-! ClassifySort, the component (room CS): state, asking, a look; sets of classes -/
section
variable {kd : Nat → Nat} {an : Nat → Nat} {ai : Nat → Int → Int} {al : Nat → Int → Int} {ar : Nat → Int → Option Nat} {mX29_axioms : Nat → Option Nat} {mX29_reasoner : Nat → Option Nat} {mX29_classes : Nat → Int} {mX29_things : Nat → Option Nat} {mX29_thingCount : Nat → Int} {mX29_fuel : Nat → Int} {mX29_above : Nat → Option Nat} {mX29_not : Nat → Option Nat} {mX29_open : Nat → Option Nat} {mX29_under : Nat → Option Nat} {mX29_sorted : Nat → Int} {mX29_placed : Nat → Int} {mX29_empties : Nat → Int} {mX29_asked : Nat → Int} {mX30_fired : Nat → Option Nat} {mX30_many : Nat → Int} {mX30_facts : Nat → Int} {mX30_this_0 : Nat → Option Nat} {mX61_left : Nat → Int} {mX61_right : Nat → Int} {mX61_gone : Nat → Int} {mJ1_modCount : Nat → Int} {mJ2_elementData : Nat → Option Nat} {mJ2_size : Nat → Int} {sa : Nat → Nat} {A : Nat → Nat} {L O R Th s fa pl : Int → Int} {n m f g x y i k c d a b q : Int} {e : Nat} {fx : Int → Nat} {P Q : Int → Prop}
/-- values of what is known -/
def csVa (n : Int) (s : Int → Int) : Prop := ∀ a b, 0 ≤ a → a < n → csH n b → s (21 * a + b) = 0 ∨ s (21 * a + b) = 1 ∨ s (21 * a + b) = 2 ∨ s (21 * a + b) = 3
theorem CCS_state {post : Int → Prop} (S : swF kd an mX29_axioms mX29_reasoner mX29_things mX29_above mX29_not mX29_open mX29_under mX30_fired mX30_this_0 A) (hS : swS n s (ai (A 4)) (ai (A 5)) (ai (A 6)) (ai (A 7))) (hn : 0 ≤ n ∧ n ≤ 20) (hv : csVa n s) (ha : 0 ≤ a ∧ a < n) (hb : csH n b) (hp : post (s (21 * a + b))) : wpCS_X29_state post kd an ai mX29_above mX29_not mX29_open (A 0) a b := by
  have l4 : (an (A 4) : Int) = 21 := by rw [S.2.2.2.1.2.1]; rfl
  have l5 : (an (A 5) : Int) = 21 := by rw [S.2.2.2.1.2.2.1]; rfl
  have l6 : (an (A 6) : Int) = 21 := by rw [S.2.2.2.1.2.2.2.1]; rfl
  have b20 := csH_b hn.2 hb
  unfold wpCS_X29_state
  refine kOn_of S.1.2.2.2.1 ⟨S.2.2.1 4 (by decide) (by decide), by omega, CCS_hasB (hS.1 a ha.1 (by omega)) b20.1 (by omega) (fun w => ?_) (fun w => kOn_of S.1.2.2.2.2.1 ⟨S.2.2.1 5 (by decide) (by decide), by omega, CCS_hasB (hS.2.1 a ha.1 (by omega)) b20.1 (by omega) (fun w2 => ?_) (fun w2 => kOn_of S.1.2.2.2.2.2.1 ⟨S.2.2.1 6 (by decide) (by decide), by omega, CCS_hasB (hS.2.2.1 a ha.1 (by omega)) b20.1 (by omega) (fun w3 => ?_) (fun w3 => ?_)⟩)⟩)⟩
  · have : s (21 * a + b) = 1 := w.2.2.elim (fun q => by omega) id
    rw [this] at hp; exact hp
  · rw [w2.2.2] at hp; exact hp
  · rw [w3.2.2] at hp; exact hp
  · have h1 : ¬ s (21 * a + b) = 1 := fun q => w ⟨csH_l ha.1 ha.2, hb, Or.inr q⟩
    have h0 : ¬ s (21 * a + b) = 0 := fun q => w2 ⟨ha.2, hb, q⟩
    have h2 : ¬ s (21 * a + b) = 2 := fun q => w3 ⟨ha.2, hb, q⟩
    have := hv a b ha.1 ha.2 hb
    have e3 : s (21 * a + b) = 3 := by omega
    rw [e3] at hp; exact hp
theorem csVa_cl (hn : n ≤ 20) (h : csVa n s) : csVa n (csCl n L O R Th m s) := fun a b a0 a1 hb => by
  rw [csCl_v hn ⟨a0, a1⟩ hb]
  by_cases w : csY n (csB0 L O R Th m s) a b
  · rw [pif_t w]; exact Or.inr (Or.inl rfl)
  · rw [pif_f w]
    by_cases v : csNo n (csB0 L O R Th m s) s a b
    · rw [pif_t v]; exact Or.inl rfl
    · rw [pif_f v]; exact h a b a0 a1 hb
theorem csVa_u {v : Int} (hn : n ≤ 20) (h : csVa n s) (ha : 0 ≤ a ∧ a < n) (hb : csH n b) (hv : v = 0 ∨ v = 1 ∨ v = 2) : csVa n (updI s (21 * a + b) v) := fun a' b' a0 a1 hb' => by
  by_cases q : 21 * a' + b' = 21 * a + b
  · rw [q, updI_s]; omega
  · rw [updI_n q]; exact h a' b' a0 a1 hb'
theorem csI_ne (hn : n ≤ 20) (hb : csH n b) (hd : csH n d) (h : ¬ (c = a ∧ d = b)) : ¬ 21 * c + d = 21 * a + b := by
  have := csH_b hn hb
  have := csH_b hn hd
  omega
/-- rows when one pair is said -/
theorem swS_u (hn : 0 ≤ n ∧ n ≤ 20) (K : csK n L O R Th m s) (ha : 0 ≤ a ∧ a < n) (hb : csH n b) (s3 : s (21 * a + b) = 3) {v : Int} {g4 g5 g6 g7 : Int → Int} (hS : swS n s g4 g5 g6 g7) :
    (v = 1 → swR (updI g4 a (zor (g4 a) (2 ^ b.toNat))) (fun c d => csH n c ∧ csH n d ∧ (c = d ∨ c = 20 ∨ updI s (21 * a + b) v (21 * c + d) = 1))) ∧ (¬ v = 1 → swR g4 (fun c d => csH n c ∧ csH n d ∧ (c = d ∨ c = 20 ∨ updI s (21 * a + b) v (21 * c + d) = 1))) ∧
    (v = 0 → swR2 (updI g5 a (zor (g5 a) (2 ^ b.toNat))) (fun c d => c < n ∧ csH n d ∧ updI s (21 * a + b) v (21 * c + d) = 0)) ∧ (¬ v = 0 → swR2 g5 (fun c d => c < n ∧ csH n d ∧ updI s (21 * a + b) v (21 * c + d) = 0)) ∧
    (v = 2 → swR2 (updI g6 a (zor (g6 a) (2 ^ b.toNat))) (fun c d => c < n ∧ csH n d ∧ updI s (21 * a + b) v (21 * c + d) = 2)) ∧ (¬ v = 2 → swR2 g6 (fun c d => c < n ∧ csH n d ∧ updI s (21 * a + b) v (21 * c + d) = 2)) := by
  have b20 := csH_b hn.2 hb
  have m1 : mS (2 ^ b.toNat) (fun k => k = b) := mS_one ⟨b20.1, by omega⟩
  have ba : ∀ c d, csH n c → csH n d → (csB s c d ↔ c = d ∨ c = 20 ∨ s (21 * c + d) = 1) := fun c d hc hd => ⟨fun w => Or.inr w, fun w => w.elim (fun q => by rw [← q]; exact csK_r K hc) id⟩
  -- elsewhere
  have el : ∀ c d, csH n d → ¬ (c = a ∧ d = b) → updI s (21 * a + b) v (21 * c + d) = s (21 * c + d) := fun c d hd w => updI_n (csI_ne hn.2 hb hd w)
  have at_ : updI s (21 * a + b) v (21 * a + b) = v := updI_s
  refine ⟨fun v1 => ?_, fun v1 => ?_, fun v1 => ?_, fun v1 => ?_, fun v1 => ?_, fun v1 => ?_⟩
  · refine swR_up (X := fun c d => csH n c ∧ csH n d ∧ csB s c d) hS.1 (mS_c (mS_or (hS.1 a ha.1 (by omega)) m1) (fun d _ _ => ⟨fun w => ?_, fun w => ?_⟩)) (fun c _ _ nc d _ _ => ⟨fun w => ⟨w.1, w.2.1, ?_⟩, fun w => ⟨w.1, w.2.1, ?_⟩⟩)
    · rcases w with w | w
      · refine ⟨w.1, w.2.1, ?_⟩
        by_cases q : d = b
        · rw [q, at_]; exact Or.inr (Or.inr v1)
        · rw [el a d w.2.1 (fun z => q z.2)]; exact (ba _ _ w.1 w.2.1).mp w.2.2
      · rw [w, at_]; exact ⟨csH_l ha.1 ha.2, hb, Or.inr (Or.inr v1)⟩
    · by_cases q : d = b
      · exact Or.inr q
      · rw [el a d w.2.1 (fun z => q z.2)] at w
        exact Or.inl ⟨w.1, w.2.1, (ba _ _ w.1 w.2.1).mpr w.2.2⟩
    · rw [el c d w.2.1 (fun z => nc z.1)]; exact (ba _ _ w.1 w.2.1).mp w.2.2
    · have w2 := w.2.2
      rw [el c d w.2.1 (fun z => nc z.1)] at w2; exact (ba _ _ w.1 w.2.1).mpr w2
  · refine swR_c (X := fun c d => csH n c ∧ csH n d ∧ csB s c d) hS.1 (fun c _ _ d _ _ => ⟨fun w => ⟨w.1, w.2.1, ?_⟩, fun w => ⟨w.1, w.2.1, ?_⟩⟩)
    · by_cases q : c = a ∧ d = b
      · have w2 := w.2.2
        rw [q.1, q.2] at w2
        rcases w2 with w2 | w2 <;> omega
      · rw [el c d w.2.1 q]; exact (ba _ _ w.1 w.2.1).mp w.2.2
    · by_cases q : c = a ∧ d = b
      · have w2 := w.2.2
        rw [q.1, q.2, at_] at w2
        rw [q.1, q.2]
        rcases w2 with w2 | w2 | w2
        · rw [w2]; exact csK_r K hb
        · omega
        · exact absurd w2 v1
      · have w2 := w.2.2
        rw [el c d w.2.1 q] at w2; exact (ba _ _ w.1 w.2.1).mpr w2
  · refine swR2_up (X := fun c d => c < n ∧ csH n d ∧ s (21 * c + d) = 0) hS.2.1 (mS_c (mS_or (hS.2.1 a ha.1 (by omega)) m1) (fun d _ _ => ⟨fun w => ?_, fun w => ?_⟩)) (fun c _ _ nc d _ _ => ⟨fun w => ⟨w.1, w.2.1, by rw [el c d w.2.1 (fun z => nc z.1)]; exact w.2.2⟩, fun w => ⟨w.1, w.2.1, by have w2 := w.2.2; rw [el c d w.2.1 (fun z => nc z.1)] at w2; exact w2⟩⟩)
    · rcases w with w | w
      · refine ⟨w.1, w.2.1, ?_⟩
        by_cases q : d = b
        · rw [q, at_]; exact v1
        · rw [el a d w.2.1 (fun z => q z.2)]; exact w.2.2
      · rw [w, at_]; exact ⟨ha.2, hb, v1⟩
    · by_cases q : d = b
      · exact Or.inr q
      · rw [el a d w.2.1 (fun z => q z.2)] at w; exact Or.inl w
  · refine swR2_c (X := fun c d => c < n ∧ csH n d ∧ s (21 * c + d) = 0) hS.2.1 (fun c _ _ d _ _ => ⟨fun w => ⟨w.1, w.2.1, ?_⟩, fun w => ⟨w.1, w.2.1, ?_⟩⟩)
    · by_cases q : c = a ∧ d = b
      · have w2 := w.2.2
        rw [q.1, q.2] at w2; omega
      · rw [el c d w.2.1 q]; exact w.2.2
    · have w2 := w.2.2
      by_cases q : c = a ∧ d = b
      · rw [q.1, q.2, at_] at w2; exact absurd w2 v1
      · rw [el c d w.2.1 q] at w2; exact w2
  · refine swR2_up (X := fun c d => c < n ∧ csH n d ∧ s (21 * c + d) = 2) hS.2.2.1 (mS_c (mS_or (hS.2.2.1 a ha.1 (by omega)) m1) (fun d _ _ => ⟨fun w => ?_, fun w => ?_⟩)) (fun c _ _ nc d _ _ => ⟨fun w => ⟨w.1, w.2.1, by rw [el c d w.2.1 (fun z => nc z.1)]; exact w.2.2⟩, fun w => ⟨w.1, w.2.1, by have w2 := w.2.2; rw [el c d w.2.1 (fun z => nc z.1)] at w2; exact w2⟩⟩)
    · rcases w with w | w
      · refine ⟨w.1, w.2.1, ?_⟩
        by_cases q : d = b
        · rw [q, at_]; exact v1
        · rw [el a d w.2.1 (fun z => q z.2)]; exact w.2.2
      · rw [w, at_]; exact ⟨ha.2, hb, v1⟩
    · by_cases q : d = b
      · exact Or.inr q
      · rw [el a d w.2.1 (fun z => q z.2)] at w; exact Or.inl w
  · refine swR2_c (X := fun c d => c < n ∧ csH n d ∧ s (21 * c + d) = 2) hS.2.2.1 (fun c _ _ d _ _ => ⟨fun w => ⟨w.1, w.2.1, ?_⟩, fun w => ⟨w.1, w.2.1, ?_⟩⟩)
    · by_cases q : c = a ∧ d = b
      · have w2 := w.2.2
        rw [q.1, q.2] at w2; omega
      · rw [el c d w.2.1 q]; exact w.2.2
    · have w2 := w.2.2
      by_cases q : c = a ∧ d = b
      · rw [q.1, q.2, at_] at w2; exact absurd w2 v1
      · rw [el c d w.2.1 q] at w2; exact w2
/-- the rows of what is known, of things and what fired -/
def swD (n f t : Int) (s me : Int → Int) (mX29_classes mX29_fuel mX29_thingCount : Nat → Int) (ai : Nat → Int → Int) (A : Nat → Nat) (L O R Th : Int → Int) (m : Int) : Prop :=
  (mX29_classes (A 0) = n ∧ mX29_fuel (A 0) = f ∧ mX29_thingCount (A 0) = t) ∧ (0 ≤ f ∧ f ≤ 20) ∧ (0 ≤ t ∧ t ≤ 8) ∧ swS n s (ai (A 4)) (ai (A 5)) (ai (A 6)) (ai (A 7)) ∧ (∀ j, 0 ≤ j → j < 8 → mS (ai (A 3) j) (fun c => c < 20 ∧ ¬ me (20 * j + c) = 0)) ∧ csSd n L O R Th m s ∧ csK n L O R Th m s ∧ csVa n s ∧ csZ n s
theorem swF.ne (S : swF kd an mX29_axioms mX29_reasoner mX29_things mX29_above mX29_not mX29_open mX29_under mX30_fired mX30_this_0 A) {i j : Nat} (h : (3 ≤ i ∧ i ≤ 8) ∧ (3 ≤ j ∧ j ≤ 8) ∧ i ≠ j) : A i ≠ A j := S.2.2.2.2 i j h.1.1 h.1.2 h.2.1.1 h.2.1.2 h.2.2
theorem swS_8 (S : swF kd an mX29_axioms mX29_reasoner mX29_things mX29_above mX29_not mX29_open mX29_under mX30_fired mX30_this_0 A) {ai' : Nat → Int → Int} (E : swE ai ai' (fun a => a = A 8)) (h : swS n s (ai (A 4)) (ai (A 5)) (ai (A 6)) (ai (A 7))) : swS n s (ai' (A 4)) (ai' (A 5)) (ai' (A 6)) (ai' (A 7)) := by
  rw [E _ (S.ne (i := 4) (j := 8) (by decide)), E _ (S.ne (i := 5) (j := 8) (by decide)), E _ (S.ne (i := 6) (j := 8) (by decide)), E _ (S.ne (i := 7) (j := 8) (by decide))]
  exact h
/-- a look -/
theorem CCS_isBelow {post : Int → (Nat → Int → Int) → (Nat → Int) → (Nat → Int) → (Nat → Int) → Prop} {t : Int} {me : Int → Int} (S : swF kd an mX29_axioms mX29_reasoner mX29_things mX29_above mX29_not mX29_open mX29_under mX30_fired mX30_this_0 A) (T : swA kd an ar mX61_left mX61_right mX61_gone mJ2_elementData mJ2_size (sa 0) (A 1) L O R Th n m e fx) (D : swD n f t s me mX29_classes mX29_fuel mX29_thingCount ai A L O R Th m) (ha : 0 ≤ a ∧ a < n) (hb : csH n b) (eq : mX29_asked (A 0) = q) (hq : 0 ≤ q ∧ q ≤ 1000000)
    (hp : ∀ ai' aq ma fc, swD n f t (csLk n L O R Th m f a b s) me mX29_classes mX29_fuel mX29_thingCount ai' A L O R Th m → aq (A 0) = csQ1 s a b q → post (if csLk n L O R Th m f a b s (21 * a + b) = 1 then 1 else 0) ai' aq ma fc) : wpCS_X29_isBelow post kd an ai ar mX29_axioms mX29_reasoner mX29_classes mX29_fuel mX29_above mX29_not mX29_open mX29_under mX29_asked mX30_fired mX30_many mX30_facts mX30_this_0 mX61_left mX61_right mX61_gone mJ2_elementData mJ2_size (A 0) a b := by
  obtain ⟨t1, t2, t3, hAx, hm, hn⟩ := id T
  obtain ⟨⟨en, ef, et⟩, hf, ht, hS, hM, hSd, hK, hV, hZ⟩ := id D
  have l4 : (an (A 4) : Int) = 21 := by rw [S.2.2.2.1.2.1]; rfl
  have l5 : (an (A 5) : Int) = 21 := by rw [S.2.2.2.1.2.2.1]; rfl
  have l6 : (an (A 6) : Int) = 21 := by rw [S.2.2.2.1.2.2.2.1]; rfl
  have b20 := csH_b hn.2 hb
  have n45 : A 4 ≠ A 5 := S.ne (i := 4) (j := 5) (by decide)
  have n46 : A 4 ≠ A 6 := S.ne (i := 4) (j := 6) (by decide)
  have n56 : A 5 ≠ A 6 := S.ne (i := 5) (j := 6) (by decide)
  have n34 : A 3 ≠ A 4 := S.ne (i := 3) (j := 4) (by decide)
  have n35 : A 3 ≠ A 5 := S.ne (i := 3) (j := 5) (by decide)
  have n36 : A 3 ≠ A 6 := S.ne (i := 3) (j := 6) (by decide)
  have n37 : A 3 ≠ A 7 := S.ne (i := 3) (j := 7) (by decide)
  have n38 : A 3 ≠ A 8 := S.ne (i := 3) (j := 8) (by decide)
  have e34 : ∀ z, z = A 4 ∨ z = A 5 ∨ z = A 6 → A 3 ≠ z := fun z w => by rcases w with w | w | w <;> rw [w] <;> assumption
  -- the end
  have fin : ∀ (ai' : Nat → Int → Int) (aq ma fc : Nat → Int), swD n f t (csLk n L O R Th m f a b s) me mX29_classes mX29_fuel mX29_thingCount ai' A L O R Th m → aq (A 0) = csQ1 s a b q → wpCS_X29_has (fun r => (r = 0 ∨ r = 1) ∧ post r ai' aq ma fc) (ai' (A 4) a) b := fun ai' aq ma fc D' ea => by
    have H := hp ai' aq ma fc D' ea
    have S' := D'.2.2.2.1
    refine CCS_has (S'.1 a ha.1 (by omega)) b20.1 (by omega) (fun w => ⟨Or.inr rfl, ?_⟩) (fun w => ⟨Or.inl rfl, ?_⟩)
    · have : csLk n L O R Th m f a b s (21 * a + b) = 1 := w.2.2.elim (fun q => by omega) id
      rw [if_pos this] at H; exact H
    · rw [if_neg (fun q => w ⟨csH_l ha.1 ha.2, hb, Or.inr q⟩)] at H; exact H
  -- what is said is closed
  have clo : s (21 * a + b) = 3 → ∀ (r : Int) (ai1 ai2 : Nat → Int → Int) (aq ma fc : Nat → Int) (Z : (Nat → Int → Int) → Prop), (∀ ai', wpCS_X29_has (fun r => (r = 0 ∨ r = 1) ∧ post r ai' aq ma fc) (ai' (A 4) a) b → Z ai') → (csAn L O R Th m f b (csOne a)).1 = r → swE ai ai1 (fun a => a = A 8) → swE ai1 ai2 (fun z => z = A 4 ∨ z = A 5 ∨ z = A 6) → aq (A 0) = csQ1 s a b q → swR (ai2 (A 4)) (fun c d => csH n c ∧ csH n d ∧ (c = d ∨ c = 20 ∨ updI s (21 * a + b) r (21 * c + d) = 1)) → swR2 (ai2 (A 5)) (fun c d => c < n ∧ csH n d ∧ updI s (21 * a + b) r (21 * c + d) = 0) → swR2 (ai2 (A 6)) (fun c d => c < n ∧ csH n d ∧ updI s (21 * a + b) r (21 * c + d) = 2) → wpCS_X29_close Z kd an ai2 ar mX29_axioms mX29_classes mX29_above mX29_not mX29_open mX29_under mX61_left mX61_right mX61_gone mJ2_elementData mJ2_size (A 0) := fun s3 r ai1 ai2 aq ma fc Z hZp er E1 E2 ea R4 R5 R6 => by
    have Sd' := csSd_as (f := f) hSd hm.1 hn.2 hAx ha hb
    rw [er] at Sd'
    have val := (csAn_s (L := L) (O := O) (R := R) (Th := Th) (f := f) (a := a) hm.1 hn.2 hAx b20).2.2
    rw [er] at val
    have lk : csLk n L O R Th m f a b s = csCl n L O R Th m (updI s (21 * a + b) r) := by unfold csLk; rw [pif_t s3, er]
    have Z' := csZ_lk (L := L) (O := O) (R := R) (Th := Th) (m := m) (f := f) hZ ha hn.2 hb
    refine CCS_close S T en R4 R5 R6 (csSd_ok Sd') (fun ai' E3 S3 => hZp ai' (fin ai' aq ma fc ⟨⟨en, ef, et⟩, hf, ht, by rw [lk]; exact S3, fun j j0 j1 => ?_, by rw [lk]; exact csSd_cl hn.2 Sd', by rw [lk]; exact csK_cl hn.2 (csSd_ok Sd'), by rw [lk]; exact csVa_cl hn.2 (csVa_u hn.2 hV ha hb (by omega)), Z'⟩ ea))
    have e3 : ai' (A 3) = ai (A 3) := by
      rw [E3 _ (fun z => z.elim n34 (fun z => z.elim n35 (fun z => z.elim n36 n37))), E2 _ (fun z => e34 _ z rfl), E1 _ n38]
    rw [e3]; exact hM j j0 j1
  unfold wpCS_X29_isBelow
  refine CCS_state S hS hn hV ha hb ⟨fun s3 => ⟨by omega, fun v ev as1 ea => ?_⟩, fun s3 => kOn_of S.1.2.2.2.1 ⟨S.2.2.1 4 (by decide) (by decide), by omega, ?_⟩⟩
  · subst ev ea
    have q1 : va_up mX29_asked (A 0) (mX29_asked (A 0) + 1) (A 0) = csQ1 s a b q := by rw [va_up_self, eq]; unfold csQ1; rw [if_pos s3]
    have oneM : mS (2 ^ a.toNat) (fun c => c ≤ 20 ∧ ¬ csOne a c = 0) := mS_c (mS_one ⟨ha.1, by omega⟩) (fun c _ _ => by
      unfold csOne
      by_cases w : c = a
      · rw [if_pos w]; exact ⟨fun _ => ⟨by omega, by decide⟩, fun _ => w⟩
      · rw [if_neg w]; exact ⟨fun v => absurd v w, fun v => absurd rfl v.2⟩)
    refine ⟨⟨ha.1, by omega⟩, kOn_of S.1.2.1 ⟨S.2.1.2.2, CCS_answer S T ef hf b20 oneM (fun r l' ai1 ma fc er _ E1 _ _ _ => ?_)⟩⟩
    have S1 := swS_8 S E1 hS
    obtain ⟨u1, u2, u3, u4, u5, u6⟩ := swS_u hn hK ha hb s3 (v := r) S1
    have val := (csAn_s (L := L) (O := O) (R := R) (Th := Th) (f := f) (a := a) hm.1 hn.2 hAx b20).2.2
    rw [er] at val
    have bb : 0 ≤ b ∧ b < 31 := ⟨b20.1, by omega⟩
    refine ⟨fun r1 => kOn_of S.1.2.2.2.1 ⟨S.2.2.1 4 (by decide) (by decide), by omega, bb, fun v ev ai2 ea => ?_⟩, fun r1 => ⟨fun r0 => kOn_of S.1.2.2.2.2.1 ⟨S.2.2.1 5 (by decide) (by decide), by omega, bb, fun v ev ai2 ea => ?_⟩, fun r0 => kOn_of S.1.2.2.2.2.2.1 ⟨S.2.2.1 6 (by decide) (by decide), by omega, bb, fun v ev ai2 ea => ?_⟩⟩⟩
    · subst ev ea
      refine clo s3 r ai1 _ _ ma fc _ (fun _ h => h) er E1 (fun z hz => va_up_ne _ _ (fun w => hz (Or.inl w))) q1 ?_ ?_ ?_
      · rw [va_up_self]; exact u1 r1
      · rw [va_up_ne _ _ n45.symm]; exact u4 (by omega)
      · rw [va_up_ne _ _ n46.symm]; exact u6 (by omega)
    · subst ev ea
      refine clo s3 r ai1 (va_up ai1 (A 5) (updI (ai1 (A 5)) a (zor (ai1 (A 5) a) (2 ^ b.toNat)))) _ ma fc _ (fun ai' h => kOn_of S.1.2.2.2.1 ⟨S.2.2.1 4 (by decide) (by decide), by omega, h⟩) er E1 (fun z hz => va_up_ne _ _ (fun w => hz (Or.inr (Or.inl w)))) q1 (by rw [va_up_ne _ _ n45]; exact u2 r1) (by rw [va_up_self]; exact u3 r0) (by rw [va_up_ne _ _ n56.symm]; exact u6 (by omega))
    · subst ev ea
      refine clo s3 r ai1 (va_up ai1 (A 6) (updI (ai1 (A 6)) a (zor (ai1 (A 6) a) (2 ^ b.toNat)))) _ ma fc _ (fun ai' h => kOn_of S.1.2.2.2.1 ⟨S.2.2.1 4 (by decide) (by decide), by omega, h⟩) er E1 (fun z hz => va_up_ne _ _ (fun w => hz (Or.inr (Or.inr w)))) q1 (by rw [va_up_ne _ _ n46]; exact u2 r1) (by rw [va_up_ne _ _ n56]; exact u4 r0) (by rw [va_up_self]; exact u5 (by omega))
  · have lk : csLk n L O R Th m f a b s = s := by unfold csLk; rw [pif_f s3]
    refine fin ai mX29_asked mX30_many mX30_facts (by rw [lk]; exact D) ?_
    unfold csQ1
    rw [if_neg s3]; exact eq
end

/-! ClassifySort, the component (room CS): sets of classes; sorting -/
section
variable {kd : Nat → Nat} {an : Nat → Nat} {ai : Nat → Int → Int} {al : Nat → Int → Int} {ar : Nat → Int → Option Nat} {mX29_axioms : Nat → Option Nat} {mX29_reasoner : Nat → Option Nat} {mX29_classes : Nat → Int} {mX29_things : Nat → Option Nat} {mX29_thingCount : Nat → Int} {mX29_fuel : Nat → Int} {mX29_above : Nat → Option Nat} {mX29_not : Nat → Option Nat} {mX29_open : Nat → Option Nat} {mX29_under : Nat → Option Nat} {mX29_sorted : Nat → Int} {mX29_placed : Nat → Int} {mX29_empties : Nat → Int} {mX29_asked : Nat → Int} {mX30_fired : Nat → Option Nat} {mX30_many : Nat → Int} {mX30_facts : Nat → Int} {mX30_this_0 : Nat → Option Nat} {mX61_left : Nat → Int} {mX61_right : Nat → Int} {mX61_gone : Nat → Int} {mJ1_modCount : Nat → Int} {mJ2_elementData : Nat → Option Nat} {mJ2_size : Nat → Int} {sa : Nat → Nat} {A : Nat → Nat} {L O R Th s fa pl lk me : Int → Int} {n m f g t x y i k c d a b q v w z : Int} {e : Nat} {fx : Int → Nat} {P Q : Int → Prop}
/-- as csB, but both are there -/
theorem CCS_same {post : Int → Prop} (S : swF kd an mX29_axioms mX29_reasoner mX29_things mX29_above mX29_not mX29_open mX29_under mX30_fired mX30_this_0 A) (hS : swS n s (ai (A 4)) (ai (A 5)) (ai (A 6)) (ai (A 7))) (hn : 0 ≤ n ∧ n ≤ 20) (hc : csH n c) (hp : ∀ v, mS v (fun d => csH n d ∧ csB s c d ∧ csB s d c) → post v) : wpCS_X29_same post kd an ai mX29_above mX29_under (A 0) c := by
  have l4 : (an (A 4) : Int) = 21 := by rw [S.2.2.2.1.2.1]; rfl
  have l7 : (an (A 7) : Int) = 21 := by rw [S.2.2.2.1.2.2.2.2.1]; rfl
  have c20 := csH_b hn.2 hc
  unfold wpCS_X29_same
  exact kOn_of S.1.2.2.2.1 ⟨S.2.2.1 4 (by decide) (by decide), by omega, kOn_of S.1.2.2.2.2.2.2.1 ⟨S.2.2.1 7 (by decide) (by decide), by omega, hp _ (mS_c (mS_and (hS.1 c c20.1 c20.2) (hS.2.2.2 c c20.1 c20.2)) (fun d _ _ => ⟨fun w => ⟨w.1.2.1, w.1.2.2, w.2.2.2⟩, fun w => ⟨⟨hc, w.1, w.2.1⟩, w.1, hc, w.2.2⟩⟩))⟩⟩
/-- those of a set that none of it is strictly below (low) or above -/
def swEd (s : Int → Int) (n : Int) (P : Int → Prop) (low d : Int) : Prop := (0 ≤ d ∧ d < n) ∧ P d ∧ ∀ e, csH n e → P e → (¬ low = 0 → csB s e d → csB s d e) ∧ (low = 0 → csB s d e → csB s e d)
theorem CCS_ends {post : Int → Prop} (S : swF kd an mX29_axioms mX29_reasoner mX29_things mX29_above mX29_not mX29_open mX29_under mX30_fired mX30_this_0 A) (hS : swS n s (ai (A 4)) (ai (A 5)) (ai (A 6)) (ai (A 7))) (hn : 0 ≤ n ∧ n ≤ 20) (en : mX29_classes (A 0) = n) (hx : mS x P) (hp : ∀ v, mS v (swEd s n P y) → post v) : wpCS_X29_ends post kd an ai mX29_classes mX29_above mX29_under (A 0) x y := by
  have l4 : (an (A 4) : Int) = 21 := by rw [S.2.2.2.1.2.1]; rfl
  have l7 : (an (A 7) : Int) = 21 := by rw [S.2.2.2.1.2.2.2.2.1]; rfl
  unfold wpCS_X29_ends
  refine wl2 (fun u v d => wCS_X29_ends_5 _ (A 0) x y kd an ai mX29_classes mX29_above mX29_under u v d) (fun v d => (0 ≤ d ∧ d ≤ n) ∧ mS v (fun c => c < d ∧ swEd s n P y c)) (fun _ d => (n - d).toNat) ?_ 0 0 ⟨by omega, mS_c mS_0 (fun c c0 _ => ⟨fun w => w.elim, fun w => by omega⟩)⟩
  rintro v d ⟨hd, hv⟩ u ih
  rw [wCS_X29_ends_5, en]
  have bit : mS (2 ^ d.toNat) (fun k => k = d) := mS_one ⟨hd.1, by omega⟩
  have skip : ¬ swEd s n P y d → d < n → mS v (fun c => c < d + 1 ∧ swEd s n P y c) := fun w _ => mS_c hv (fun c _ _ => ⟨fun h => ⟨by omega, h.2⟩, fun h => ⟨by
    have : c ≠ d := fun q => w (by rw [← q]; exact h.2)
    omega, h.2⟩⟩)
  have take : swEd s n P y d → mS (zor v (2 ^ d.toNat)) (fun c => c < d + 1 ∧ swEd s n P y c) := fun w => mS_c (mS_or hv bit) (fun c _ _ => ⟨fun h => h.elim (fun h => ⟨by omega, h.2⟩) (fun h => by rw [h]; exact ⟨by omega, w⟩), fun h => by
    by_cases q : c = d
    · exact Or.inr q
    · exact Or.inl ⟨by omega, h.2⟩⟩)
  -- the rest of a step, over the row that is looked at
  have step : ∀ (r : Int) (B : Int → Prop), mS r B → d < n → ((∀ e, 0 ≤ e → e < 32 → ¬ ((B e ∧ P e) ∧ ¬ (csH n e ∧ csB s d e ∧ csB s e d))) ↔ swEd s n P y d) → wCS_X29_ends_47 (wCS_X29_ends_5 (fun x3_31 => post x3_31) (A 0) x y kd an ai mX29_classes mX29_above mX29_under u) (A 0) x v d r kd an ai mX29_above mX29_under := fun r B hr dn hi => by
    unfold wCS_X29_ends_47
    refine CCS_same S hS hn (csH_l hd.1 dn) (fun sm hsm => fun v5 e5 => ?_)
    have hm := mS_and (mS_and hr hx) (mS_not hsm)
    rw [← e5] at hm
    refine ⟨fun z0 => ⟨⟨hd.1, by omega⟩, fun _ e1 => ⟨by omega, fun _ e2 => ?_⟩⟩, fun z0 => ⟨by omega, fun _ e2 => ?_⟩⟩
    · subst e1 e2
      exact ih _ _ ⟨by omega, take (hi.mp ((mS_z hm).mp z0))⟩ (by omega)
    · subst e2
      exact ih _ _ ⟨by omega, skip (fun q => z0 ((mS_z hm).mpr (hi.mpr q))) dn⟩ (by omega)
  refine ⟨fun z => hp v (mS_c hv (fun c _ _ => ⟨fun w => w.2, fun w => ⟨by have := w.1; omega, w⟩⟩)), fun z => CCS_hasB hx hd.1 (by omega) (fun w => ⟨fun y0 => kOn_of S.1.2.2.2.1 ⟨S.2.2.1 4 (by decide) (by decide), by omega, step _ _ (hS.1 d hd.1 (by omega)) (by omega) ⟨fun h => ⟨by omega, w, fun e he pe => ⟨fun q => absurd y0 q, fun _ de => ?_⟩⟩, fun h e e0 e1 q => ?_⟩⟩, fun y0 => kOn_of S.1.2.2.2.2.2.2.1 ⟨S.2.2.1 7 (by decide) (by decide), by omega, step _ _ (hS.2.2.2 d hd.1 (by omega)) (by omega) ⟨fun h => ⟨by omega, w, fun e he pe => ⟨fun _ ed => ?_, fun q => absurd q y0⟩⟩, fun h e e0 e1 q => ?_⟩⟩⟩) (fun w => ⟨by omega, fun _ e1 => ?_⟩)⟩
  · have e20 := csH_b hn.2 he
    exact Classical.byContradiction (fun q => h e e20.1 (by omega) ⟨⟨⟨csH_l hd.1 (by omega), he, de⟩, pe⟩, fun r => q r.2.2⟩)
  · exact q.2 ⟨q.1.1.2.1, q.1.1.2.2, (h.2.2 e q.1.1.2.1 q.1.2).2 y0 q.1.1.2.2⟩
  · have e20 := csH_b hn.2 he
    exact Classical.byContradiction (fun q => h e e20.1 (by omega) ⟨⟨⟨he, csH_l hd.1 (by omega), ed⟩, pe⟩, fun r => q r.2.1⟩)
  · exact q.2 ⟨q.1.1.1, (h.2.2 e q.1.1.1 q.1.2).1 y0 q.1.1.2.2, q.1.1.2.2⟩
  · subst e1
    exact ih _ _ ⟨by omega, skip (fun q => w q.2.1) (by omega)⟩ (by omega)
/-- placed classes, as a mask -/
def swPl (n : Int) (pl : Int → Int) (x : Int) : Prop := mS x (fun c => (0 ≤ c ∧ c < n) ∧ ¬ pl c = 0)
theorem CCS_dAbove {post : Int → Prop} (S : swF kd an mX29_axioms mX29_reasoner mX29_things mX29_above mX29_not mX29_open mX29_under mX30_fired mX30_this_0 A) (hS : swS n s (ai (A 4)) (ai (A 5)) (ai (A 6)) (ai (A 7))) (hn : 0 ≤ n ∧ n ≤ 20) (en : mX29_classes (A 0) = n) (hP : swPl n pl (mX29_placed (A 0))) (hc : 0 ≤ c ∧ c < n) (hp : ∀ v, mS v (fun d => (0 ≤ d ∧ d < n) ∧ csDi n s pl c d) → post v) : wpCS_X29_directlyAbove post kd an ai mX29_classes mX29_above mX29_under mX29_placed (A 0) c := by
  have l4 : (an (A 4) : Int) = 21 := by rw [S.2.2.2.1.2.1]; rfl
  unfold wpCS_X29_directlyAbove
  refine kOn_of S.1.2.2.2.1 ⟨S.2.2.1 4 (by decide) (by decide), by omega, CCS_same S hS hn (csH_l hc.1 hc.2) (fun sm hsm => CCS_ends S hS hn en (mS_and (mS_and (hS.1 c hc.1 (by omega)) hP) (mS_not hsm)) (fun v hv => hp v (mS_c hv (fun d _ _ => ?_))))⟩
  constructor
  · rintro ⟨h1, ⟨⟨h2, h3⟩, h4⟩, h5⟩
    refine ⟨h1, h3.2, ⟨h2.2.2, fun w => h4 ⟨csH_l h1.1 h1.2, h2.2.2, w⟩⟩, fun e e0 e1 w => ?_⟩
    obtain ⟨w1, w2, w3⟩ := w
    exact w3.2 ((h5 e (csH_l e0 e1) ⟨⟨⟨csH_l hc.1 hc.2, csH_l e0 e1, w2.1⟩, ⟨e0, e1⟩, w1⟩, fun r => w2.2 r.2.2⟩).1 (by decide) w3.1)
  · rintro ⟨h1, h2, h3, h4⟩
    refine ⟨h1, ⟨⟨⟨csH_l hc.1 hc.2, csH_l h1.1 h1.2, h3.1⟩, h1, h2⟩, fun r => h3.2 r.2.2⟩, fun e he pe => ⟨fun _ ed => ?_, fun q => absurd q (by decide)⟩⟩
    exact Classical.byContradiction (fun q => h4 e pe.1.2.1.1 pe.1.2.1.2 ⟨pe.1.2.2, ⟨pe.1.1.2.2, fun r => pe.2 ⟨he, pe.1.1.2.2, r⟩⟩, ed, q⟩)
theorem CCS_dBelow {post : Int → Prop} (S : swF kd an mX29_axioms mX29_reasoner mX29_things mX29_above mX29_not mX29_open mX29_under mX30_fired mX30_this_0 A) (hS : swS n s (ai (A 4)) (ai (A 5)) (ai (A 6)) (ai (A 7))) (hn : 0 ≤ n ∧ n ≤ 20) (en : mX29_classes (A 0) = n) (hP : swPl n pl (mX29_placed (A 0))) (hc : 0 ≤ c ∧ c < n) (pc : ¬ pl c = 0) (hp : ∀ v, mS v (fun d => (0 ≤ d ∧ d < n) ∧ ¬ pl d = 0 ∧ csDi n s pl d c) → post v) : wpCS_X29_directlyBelow post kd an ai mX29_classes mX29_above mX29_under mX29_placed (A 0) c := by
  have l7 : (an (A 7) : Int) = 21 := by rw [S.2.2.2.1.2.2.2.2.1]; rfl
  unfold wpCS_X29_directlyBelow
  refine kOn_of S.1.2.2.2.2.2.2.1 ⟨S.2.2.1 7 (by decide) (by decide), by omega, CCS_same S hS hn (csH_l hc.1 hc.2) (fun sm hsm => CCS_ends S hS hn en (mS_and (mS_and (hS.2.2.2 c hc.1 (by omega)) hP) (mS_not hsm)) (fun v hv => hp v (mS_c hv (fun d _ _ => ?_))))⟩
  constructor
  · rintro ⟨h1, ⟨⟨h2, h3⟩, h4⟩, h5⟩
    refine ⟨h1, h3.2, pc, ⟨h2.2.2, fun w => h4 ⟨csH_l h1.1 h1.2, w, h2.2.2⟩⟩, fun e e0 e1 w => ?_⟩
    obtain ⟨w1, w2, w3⟩ := w
    exact w2.2 ((h5 e (csH_l e0 e1) ⟨⟨⟨csH_l e0 e1, csH_l hc.1 hc.2, w3.1⟩, ⟨e0, e1⟩, w1⟩, fun r => w3.2 r.2.1⟩).2 rfl w2.1)
  · rintro ⟨h1, h2, _, h3, h4⟩
    refine ⟨h1, ⟨⟨⟨csH_l h1.1 h1.2, csH_l hc.1 hc.2, h3.1⟩, h1, h2⟩, fun r => h3.2 r.2.1⟩, fun e he pe => ⟨fun q => absurd rfl q, fun _ de => ?_⟩⟩
    exact Classical.byContradiction (fun q => h4 e pe.1.2.1.1 pe.1.2.1.2 ⟨pe.1.2.2, ⟨de, q⟩, pe.1.1.2.2, fun r => pe.2 ⟨he, r, pe.1.1.2.2⟩⟩)
theorem CCS_nDown {post : Int → Prop} (S : swF kd an mX29_axioms mX29_reasoner mX29_things mX29_above mX29_not mX29_open mX29_under mX30_fired mX30_this_0 A) (hS : swS n s (ai (A 4)) (ai (A 5)) (ai (A 6)) (ai (A 7))) (hn : 0 ≤ n ∧ n ≤ 20) (en : mX29_classes (A 0) = n) (hP : swPl n pl (mX29_placed (A 0))) (hx : 0 ≤ x ∧ x < n) (hL : mS v (fun c => (0 ≤ c ∧ c < n) ∧ ¬ lk c = 0)) (hp : post (csNf n s pl lk x 1)) : wpCS_X29_nextDown post kd an ai mX29_classes mX29_above mX29_under mX29_placed (A 0) x v := by
  have l4 : (an (A 4) : Int) = 21 := by rw [S.2.2.2.1.2.1]; rfl
  have F := fstI_s (csNp n s pl lk x 1) n.toNat
  have en' : ((n.toNat : Nat) : Int) = n := by omega
  rw [en'] at F
  unfold csNf at hp
  generalize fstI (csNp n s pl lk x 1) n.toNat = G at F hp
  unfold wpCS_X29_nextDown
  refine zl1 (fun u k => wCS_X29_nextDown_2 _ _ (A 0) x v kd an ai mX29_classes mX29_above mX29_under mX29_placed u k) (fun k => 0 ≤ k ∧ k ≤ G) n ?_ ⟨by decide, by omega⟩ hn.1
  rintro u k ⟨k0, hk⟩ kn ih
  rw [wCS_X29_nextDown_2, en]
  have no : ¬ csNp n s pl lk x 1 k → k < n → k + 1 ≤ G := fun w kn => by
    have : G ≠ k := fun q => w (by rw [← q]; exact F.2.1 (by omega))
    omega
  have yes : csNp n s pl lk x 1 k → k < n → G = k := fun w _ => by
    have : ¬ k < G := fun q => F.2.2 k k0 q w
    omega
  refine ⟨fun z => ?_, fun z => CCS_hasB (mS_and hP (mS_not hL)) k0 (by omega) (fun w => ?_) (fun w => ⟨by omega, fun _ e1 => ?_⟩)⟩
  · rw [if_pos (by omega)] at hp; exact hp
  · have lk0 : lk k = 0 := Classical.byContradiction (fun q => w.2 ⟨w.1.1, q⟩)
    refine CCS_dAbove S hS hn en hP ⟨k0, by omega⟩ (fun r hr => kOn_of S.1.2.2.2.1 ⟨S.2.2.1 4 (by decide) (by decide), by omega, ?_⟩)
    rw [mS_sub hr (hS.1 x hx.1 (by omega))]
    have my : (∀ d, 0 ≤ d → d < 32 → (0 ≤ d ∧ d < n) ∧ csDi n s pl k d → csH n x ∧ csH n d ∧ csB s x d) ↔ csMy n s pl x 1 k := ⟨fun h d d0 d1 => ⟨fun _ D => (h d d0 (by omega) ⟨⟨d0, d1⟩, D⟩).2.2, fun q => absurd q (by decide)⟩, fun h d d0 d1 D => ⟨csH_l hx.1 hx.2, csH_l D.1.1 D.1.2, (h d D.1.1 D.1.2).1 (by decide) D.2⟩⟩
    rw [my]
    refine ⟨fun M => ?_, fun M => ⟨by omega, fun _ e1 => ?_⟩⟩
    · have := yes ⟨w.1.2, lk0, M⟩ (by omega)
      rw [if_neg (by omega), this] at hp; exact hp
    · subst e1
      exact ih (by omega) ⟨by omega, no (fun q => M q.2.2) (by omega)⟩
  · subst e1
    exact ih (by omega) ⟨by omega, no (fun q => w ⟨⟨⟨k0, by omega⟩, q.1⟩, fun r => r.2 q.2.1⟩) (by omega)⟩
theorem CCS_nUp {post : Int → Prop} (S : swF kd an mX29_axioms mX29_reasoner mX29_things mX29_above mX29_not mX29_open mX29_under mX30_fired mX30_this_0 A) (hS : swS n s (ai (A 4)) (ai (A 5)) (ai (A 6)) (ai (A 7))) (hn : 0 ≤ n ∧ n ≤ 20) (en : mX29_classes (A 0) = n) (hP : swPl n pl (mX29_placed (A 0))) (hx : 0 ≤ x ∧ x < n) (hL : mS v (fun c => (0 ≤ c ∧ c < n) ∧ ¬ lk c = 0)) (hp : post (csNf n s pl lk x 0)) : wpCS_X29_nextUp post kd an ai mX29_classes mX29_above mX29_under mX29_placed (A 0) x v := by
  have l4 : (an (A 4) : Int) = 21 := by rw [S.2.2.2.1.2.1]; rfl
  have l7 : (an (A 7) : Int) = 21 := by rw [S.2.2.2.1.2.2.2.2.1]; rfl
  have F := fstI_s (csNp n s pl lk x 0) n.toNat
  have en' : ((n.toNat : Nat) : Int) = n := by omega
  rw [en'] at F
  unfold csNf at hp
  generalize fstI (csNp n s pl lk x 0) n.toNat = G at F hp
  unfold wpCS_X29_nextUp
  refine kOn_of S.1.2.2.2.1 ⟨S.2.2.1 4 (by decide) (by decide), by omega, fun v3 e3 => kOn_of S.1.2.2.2.2.2.2.1 ⟨S.2.2.1 7 (by decide) (by decide), by omega, fun v4 e4 => ?_⟩⟩
  have h3 := mS_and (hS.1 x hx.1 (by omega)) hP
  rw [← e3] at h3
  have h4 := hS.2.2.2 x hx.1 (by omega)
  rw [← e4] at h4
  refine zl1 (fun u k => wCS_X29_nextUp_23 _ _ (A 0) v v3 v4 kd an ai mX29_classes mX29_above mX29_under mX29_placed u k) (fun k => 0 ≤ k ∧ k ≤ G) n ?_ ⟨by decide, by omega⟩ hn.1
  rintro u k ⟨k0, hk⟩ kn ih
  rw [wCS_X29_nextUp_23, en]
  have no : ¬ csNp n s pl lk x 0 k → k < n → k + 1 ≤ G := fun w kn => by
    have : G ≠ k := fun q => w (by rw [← q]; exact F.2.1 (by omega))
    omega
  have yes : csNp n s pl lk x 0 k → k < n → G = k := fun w _ => by
    have : ¬ k < G := fun q => F.2.2 k k0 q w
    omega
  refine ⟨fun z => ?_, fun z => CCS_hasB (mS_and hP (mS_not hL)) k0 (by omega) (fun w => kOn_of S.1.2.2.2.1 ⟨S.2.2.1 4 (by decide) (by decide), by omega, ?_⟩) (fun w => ⟨by omega, fun _ e1 => ?_⟩)⟩
  · rw [if_pos (by omega)] at hp; exact hp
  · have lk0 : lk k = 0 := Classical.byContradiction (fun q => w.2 ⟨w.1.1, q⟩)
    rw [mS_sub h3 (hS.1 k k0 (by omega))]
    refine ⟨fun M1 => CCS_dBelow S hS hn en hP ⟨k0, by omega⟩ w.1.2 (fun r hr => ?_), fun M1 => ⟨by omega, fun _ e1 => ?_⟩⟩
    · rw [mS_sub hr h4]
      refine ⟨fun M2 => ?_, fun M2 => ⟨by omega, fun _ e1 => ?_⟩⟩
      · have := yes ⟨w.1.2, lk0, fun d d0 d1 => ⟨fun q => absurd rfl q, fun _ pd => ⟨fun B => (M1 d d0 (by omega) ⟨⟨csH_l hx.1 hx.2, csH_l d0 d1, B⟩, ⟨d0, d1⟩, pd⟩).2.2, fun D => (M2 d d0 (by omega) ⟨⟨d0, d1⟩, pd, D⟩).2.2⟩⟩⟩ (by omega)
        rw [if_neg (by omega), this] at hp; exact hp
      · subst e1
        refine ih (by omega) ⟨by omega, no (fun q => M2 (fun d d0 _ D => ?_)) (by omega)⟩
        exact ⟨csH_l D.1.1 D.1.2, csH_l hx.1 hx.2, ((q.2.2 d D.1.1 D.1.2).2 rfl D.2.1).2 D.2.2⟩
    · subst e1
      refine ih (by omega) ⟨by omega, no (fun q => M1 (fun d d0 _ D => ?_)) (by omega)⟩
      exact ⟨csH_l k0 (by omega), D.1.2.1, ((q.2.2 d D.2.1.1 D.2.1.2).2 rfl D.2.2).1 D.1.2.2⟩
  · subst e1
    exact ih (by omega) ⟨by omega, no (fun q => w ⟨⟨⟨k0, by omega⟩, q.1⟩, fun r => r.2 q.2.1⟩) (by omega)⟩
end

/-! ClassifySort, the component (room CS): sorting (its two loops printed by a program) -/
section
variable {kd : Nat → Nat} {an : Nat → Nat} {ai : Nat → Int → Int} {al : Nat → Int → Int} {ar : Nat → Int → Option Nat} {mX29_axioms : Nat → Option Nat} {mX29_reasoner : Nat → Option Nat} {mX29_classes : Nat → Int} {mX29_things : Nat → Option Nat} {mX29_thingCount : Nat → Int} {mX29_fuel : Nat → Int} {mX29_above : Nat → Option Nat} {mX29_not : Nat → Option Nat} {mX29_open : Nat → Option Nat} {mX29_under : Nat → Option Nat} {mX29_sorted : Nat → Int} {mX29_placed : Nat → Int} {mX29_empties : Nat → Int} {mX29_asked : Nat → Int} {mX30_fired : Nat → Option Nat} {mX30_many : Nat → Int} {mX30_facts : Nat → Int} {mX30_this_0 : Nat → Option Nat} {mX61_left : Nat → Int} {mX61_right : Nat → Int} {mX61_gone : Nat → Int} {mJ1_modCount : Nat → Int} {mJ2_elementData : Nat → Option Nat} {mJ2_size : Nat → Int} {sa : Nat → Nat} {A : Nat → Nat} {L O R Th s fa pl lk me : Int → Int} {n m f g t x y i c d a b q v w z : Int} {e : Nat} {fx : Int → Nat} {P Q : Int → Prop}
/-- how many are asked does not depend on how many were -/
theorem csGo_q : ∀ (k : Nat) (s lk : Int → Int) (q a0 : Int), (csGo n L O R Th m f pl x b k s lk (a0 + q)).1 = (csGo n L O R Th m f pl x b k s lk q).1 ∧ (csGo n L O R Th m f pl x b k s lk (a0 + q)).2 = a0 + (csGo n L O R Th m f pl x b k s lk q).2
  | 0, s, lk, q, a0 => ⟨rfl, rfl⟩
  | k + 1, s, lk, q, a0 => by
    unfold csGo
    by_cases w : csNf n s pl lk x b = -1
    · rw [if_pos w, if_pos w]; exact ⟨rfl, rfl⟩
    · rw [if_neg w, if_neg w]
      have e : (if s (21 * (csPa x b (csNf n s pl lk x b)).1 + (csPa x b (csNf n s pl lk x b)).2) = 3 then a0 + q + 1 else a0 + q) = a0 + (if s (21 * (csPa x b (csNf n s pl lk x b)).1 + (csPa x b (csNf n s pl lk x b)).2) = 3 then q + 1 else q) := by split <;> omega
      rw [e]
      exact csGo_q k _ _ _ a0
theorem CCS_pl9 {K : (Nat → Int → Int) → (Nat → Int) → (Nat → Int) → (Nat → Int) → Prop} (S : swF kd an mX29_axioms mX29_reasoner mX29_things mX29_above mX29_not mX29_open mX29_under mX30_fired mX30_this_0 A) (T : swA kd an ar mX61_left mX61_right mX61_gone mJ2_elementData mJ2_size (sa 0) (A 1) L O R Th n m e fx) (hP : swPl n pl (mX29_placed (A 0))) (hx : 0 ≤ x ∧ x < n) :
    ∀ (k : Nat) (s lk : Int → Int) (q v : Int) (ai : Nat → Int → Int) (mX29_asked mX30_many mX30_facts : Nat → Int), cntI (fun e => lk e = 0) n.toNat < k → swD n f t s me mX29_classes mX29_fuel mX29_thingCount ai A L O R Th m → mS v (fun c => (0 ≤ c ∧ c < n) ∧ ¬ lk c = 0) → mX29_asked (A 0) = q → (0 ≤ q ∧ q + k ≤ 900000) →
    (∀ ai' aq ma fc, swD n f t (csGo n L O R Th m f pl x 1 k s lk q).1 me mX29_classes mX29_fuel mX29_thingCount ai' A L O R Th m → aq (A 0) = (csGo n L O R Th m f pl x 1 k s lk q).2 → K ai' aq ma fc) →
    wCS_X29_place_9 K (A 0) x kd an ar mX29_axioms mX29_reasoner mX29_classes mX29_fuel mX29_above mX29_not mX29_open mX29_under mX29_placed mX30_fired mX30_this_0 mX61_left mX61_right mX61_gone mJ2_elementData mJ2_size k v (csNf n s pl lk x 1) ai mX29_asked mX30_many mX30_facts
  | 0, s, lk, q, v, ai, aq, ma, fc, hk, _, _, _, _, _ => by
    have := cntI_b (fun e => lk e = 0) n.toNat
    omega
  | k + 1, s, lk, q, v, ai, aq, ma, fc, hk, D, hL, eq, hq, hp => by
    have hn := T.2.2.2.2.2
    have en := D.1.1
    rw [wCS_X29_place_9]
    by_cases w : csNf n s pl lk x 1 = -1
    · have go : csGo n L O R Th m f pl x 1 (k + 1) s lk q = (s, q) := by rw [csGo, if_pos w]
      rw [go] at hp
      exact ⟨fun _ => hp ai aq ma fc D eq, fun z => by omega⟩
    have N := csNf_s hn.1 w
    have go : csGo n L O R Th m f pl x 1 (k + 1) s lk q = csGo n L O R Th m f pl x 1 k (csLk n L O R Th m f x (csNf n s pl lk x 1) s) (updI lk (csNf n s pl lk x 1) 1) (csQ1 s x (csNf n s pl lk x 1) q) := by
      rw [csGo, if_neg w]
      unfold csPa csQ1
      rw [if_neg (by decide)]
    rw [go] at hp
    generalize csNf n s pl lk x 1 = E at N w hp ⊢
    have dn := cntI_u (p := fun e => updI lk E 1 e = 0) (q := fun e => lk e = 0) (x0 := E) N.1.1 (by show ¬ updI lk E 1 E = 0; rw [updI_s]; decide) N.2.2.1 (fun x hx => by show updI lk E 1 x = 0 ↔ lk x = 0; rw [updI_n hx]) n.toNat
    rw [if_pos (by omega)] at dn
    have q1 := csQ1_b (s := s) (a := x) (b := E) (q := q)
    have L2 : mS (zor v (2 ^ E.toNat)) (fun c => (0 ≤ c ∧ c < n) ∧ ¬ updI lk E 1 c = 0) := mS_c (mS_or hL (mS_one ⟨N.1.1, by omega⟩)) (fun c _ _ => by
      by_cases r : c = E
      · rw [r, updI_s]; exact ⟨fun _ => ⟨N.1, by decide⟩, fun _ => Or.inr rfl⟩
      · rw [updI_n r]; exact ⟨fun u => u.elim id (fun u => absurd u r), Or.inl⟩)
    refine ⟨fun z => by omega, fun z => ⟨⟨N.1.1, by omega⟩, fun v2 e2 => CCS_isBelow S T D hx (csH_l N.1.1 N.1.2) eq ⟨hq.1, by omega⟩ (fun ai1 as1 ma1 fc1 D1 ea => ?_)⟩⟩
    rw [e2]
    exact CCS_nDown S D1.2.2.2.1 hn en hP hx L2 (CCS_pl9 S T hP hx k _ _ _ _ _ _ _ _ (by omega) D1 L2 ea (by omega) hp)
theorem CCS_pl45 {K : (Nat → Int → Int) → (Nat → Int) → (Nat → Int) → (Nat → Int) → Prop} (S : swF kd an mX29_axioms mX29_reasoner mX29_things mX29_above mX29_not mX29_open mX29_under mX30_fired mX30_this_0 A) (T : swA kd an ar mX61_left mX61_right mX61_gone mJ2_elementData mJ2_size (sa 0) (A 1) L O R Th n m e fx) (hP : swPl n pl (mX29_placed (A 0))) (hx : 0 ≤ x ∧ x < n) :
    ∀ (k : Nat) (s lk : Int → Int) (q v : Int) (ai : Nat → Int → Int) (mX29_asked mX30_many mX30_facts : Nat → Int), cntI (fun e => lk e = 0) n.toNat < k → swD n f t s me mX29_classes mX29_fuel mX29_thingCount ai A L O R Th m → mS v (fun c => (0 ≤ c ∧ c < n) ∧ ¬ lk c = 0) → mX29_asked (A 0) = q → (0 ≤ q ∧ q + k ≤ 900000) →
    (∀ ai' aq ma fc, swD n f t (csGo n L O R Th m f pl x 0 k s lk q).1 me mX29_classes mX29_fuel mX29_thingCount ai' A L O R Th m → aq (A 0) = (csGo n L O R Th m f pl x 0 k s lk q).2 → K ai' aq ma fc) →
    wCS_X29_place_45 K (A 0) x kd an ar mX29_axioms mX29_reasoner mX29_classes mX29_fuel mX29_above mX29_not mX29_open mX29_under mX29_placed mX30_fired mX30_this_0 mX61_left mX61_right mX61_gone mJ2_elementData mJ2_size k v (csNf n s pl lk x 0) ai mX29_asked mX30_many mX30_facts
  | 0, s, lk, q, v, ai, aq, ma, fc, hk, _, _, _, _, _ => by
    have := cntI_b (fun e => lk e = 0) n.toNat
    omega
  | k + 1, s, lk, q, v, ai, aq, ma, fc, hk, D, hL, eq, hq, hp => by
    have hn := T.2.2.2.2.2
    have en := D.1.1
    rw [wCS_X29_place_45]
    by_cases w : csNf n s pl lk x 0 = -1
    · have go : csGo n L O R Th m f pl x 0 (k + 1) s lk q = (s, q) := by rw [csGo, if_pos w]
      rw [go] at hp
      exact ⟨fun _ => hp ai aq ma fc D eq, fun z => by omega⟩
    have N := csNf_s hn.1 w
    have go : csGo n L O R Th m f pl x 0 (k + 1) s lk q = csGo n L O R Th m f pl x 0 k (csLk n L O R Th m f (csNf n s pl lk x 0) x s) (updI lk (csNf n s pl lk x 0) 1) (csQ1 s (csNf n s pl lk x 0) x q) := by
      rw [csGo, if_neg w]
      unfold csPa csQ1
      rw [if_pos rfl]
    rw [go] at hp
    generalize csNf n s pl lk x 0 = E at N w hp ⊢
    have dn := cntI_u (p := fun e => updI lk E 1 e = 0) (q := fun e => lk e = 0) (x0 := E) N.1.1 (by show ¬ updI lk E 1 E = 0; rw [updI_s]; decide) N.2.2.1 (fun x hx => by show updI lk E 1 x = 0 ↔ lk x = 0; rw [updI_n hx]) n.toNat
    rw [if_pos (by omega)] at dn
    have q1 := csQ1_b (s := s) (a := E) (b := x) (q := q)
    have L2 : mS (zor v (2 ^ E.toNat)) (fun c => (0 ≤ c ∧ c < n) ∧ ¬ updI lk E 1 c = 0) := mS_c (mS_or hL (mS_one ⟨N.1.1, by omega⟩)) (fun c _ _ => by
      by_cases r : c = E
      · rw [r, updI_s]; exact ⟨fun _ => ⟨N.1, by decide⟩, fun _ => Or.inr rfl⟩
      · rw [updI_n r]; exact ⟨fun u => u.elim id (fun u => absurd u r), Or.inl⟩)
    refine ⟨fun z => by omega, fun z => ⟨⟨N.1.1, by omega⟩, fun v2 e2 => CCS_isBelow S T D N.1 (csH_l hx.1 hx.2) eq ⟨hq.1, by omega⟩ (fun ai1 as1 ma1 fc1 D1 ea => ?_)⟩⟩
    rw [e2]
    exact CCS_nUp S D1.2.2.2.1 hn en hP hx L2 (CCS_pl45 S T hP hx k _ _ _ _ _ _ _ _ (by omega) D1 L2 ea (by omega) hp)
theorem CCS_place {post : (Nat → Int → Int) → (Nat → Int) → (Nat → Int) → (Nat → Int) → (Nat → Int) → Prop} (S : swF kd an mX29_axioms mX29_reasoner mX29_things mX29_above mX29_not mX29_open mX29_under mX30_fired mX30_this_0 A) (T : swA kd an ar mX61_left mX61_right mX61_gone mJ2_elementData mJ2_size (sa 0) (A 1) L O R Th n m e fx) (hP : swPl n pl (mX29_placed (A 0))) (D : swD n f t s me mX29_classes mX29_fuel mX29_thingCount ai A L O R Th m) (hx : 0 ≤ x ∧ x < n) (eq : mX29_asked (A 0) = q) (hq : 0 ≤ q ∧ q ≤ 800000)
    (hp : ∀ ai' pm aq ma fc, swD n f t (csGo n L O R Th m f pl x 0 21 (csGo n L O R Th m f pl x 1 21 s (fun _ => 0) q).1 (fun _ => 0) (csGo n L O R Th m f pl x 1 21 s (fun _ => 0) q).2).1 me mX29_classes mX29_fuel mX29_thingCount ai' A L O R Th m → swPl n (updI pl x 1) (pm (A 0)) → aq (A 0) = (csGo n L O R Th m f pl x 0 21 (csGo n L O R Th m f pl x 1 21 s (fun _ => 0) q).1 (fun _ => 0) (csGo n L O R Th m f pl x 1 21 s (fun _ => 0) q).2).2 → post ai' pm aq ma fc) : wpCS_X29_place post kd an ai ar mX29_axioms mX29_reasoner mX29_classes mX29_fuel mX29_above mX29_not mX29_open mX29_under mX29_placed mX29_asked mX30_fired mX30_many mX30_facts mX30_this_0 mX61_left mX61_right mX61_gone mJ2_elementData mJ2_size (A 0) x := by
  have hn := T.2.2.2.2.2
  have en := D.1.1
  have L0 : mS 0 (fun c => (0 ≤ c ∧ c < n) ∧ ¬ (fun _ : Int => (0 : Int)) c = 0) := mS_c mS_0 (fun c _ _ => ⟨fun w => w.elim, fun w => w.2 rfl⟩)
  have cb := cntI_b (fun _ : Int => (0 : Int) = 0) n.toNat
  have g1 := csGo_sd (f := f) (pl := pl) (b := 1) T.2.2.2.2.1.1 hn T.2.2.2.1 hx 21 s (fun _ => 0) q D.2.2.2.2.2.1
  unfold wpCS_X29_place
  refine CCS_nDown S D.2.2.2.1 hn en hP hx L0 ⟨21, CCS_pl9 S T hP hx 21 s (fun _ => 0) q 0 ai mX29_asked mX30_many mX30_facts (by omega) D L0 eq (by omega) (fun ai1 as1 ma1 fc1 D1 e1 => ?_)⟩
  have g2 := csGo_sd (f := f) (pl := pl) (b := 0) T.2.2.2.2.1.1 hn T.2.2.2.1 hx 21 _ (fun _ => 0) (csGo n L O R Th m f pl x 1 21 s (fun _ => 0) q).2 D1.2.2.2.2.2.1
  refine CCS_nUp S D1.2.2.2.1 hn en hP hx L0 ⟨21, CCS_pl45 S T hP hx 21 _ (fun _ => 0) _ 0 ai1 as1 ma1 fc1 (by omega) D1 L0 e1 (by omega) (fun ai2 as2 ma2 fc2 D2 e2 => ⟨⟨hx.1, by omega⟩, fun v ev pm epm => ?_⟩)⟩
  subst ev epm
  refine hp ai2 _ as2 ma2 fc2 D2 ?_ e2
  rw [va_up_self]
  exact mS_c (mS_or hP (mS_one ⟨hx.1, by omega⟩)) (fun c _ _ => by
    by_cases r : c = x
    · rw [r, updI_s]; exact ⟨fun _ => ⟨hx, by decide⟩, fun _ => Or.inr rfl⟩
    · rw [updI_n r]; exact ⟨fun u => u.elim id (fun u => absurd u r), Or.inl⟩)
/-- what is not placed is empty -/
def swEm (n : Int) (pl : Int → Int) (x : Int) : Prop := mS x (fun c => (0 ≤ c ∧ c < n) ∧ pl c = 0)
theorem CCS_run {post : Int → (Nat → Int → Int) → (Nat → Int) → (Nat → Int) → (Nat → Int) → (Nat → Int) → (Nat → Int) → (Nat → Int) → Prop} {a0 : Int} (S : swF kd an mX29_axioms mX29_reasoner mX29_things mX29_above mX29_not mX29_open mX29_under mX30_fired mX30_this_0 A) (T : swA kd an ar mX61_left mX61_right mX61_gone mJ2_elementData mJ2_size (sa 0) (A 1) L O R Th n m e fx) (D : swD n f t s me mX29_classes mX29_fuel mX29_thingCount ai A L O R Th m) (eq : mX29_asked (A 0) = a0) (hq : 0 ≤ a0 ∧ a0 ≤ 500000)
    (hp : ∀ ai' so pm em aq ma fc, swD n f t (csRu n L O R Th m f s n.toNat).1 me mX29_classes mX29_fuel mX29_thingCount ai' A L O R Th m → swPl n (csRu n L O R Th m f s n.toNat).2.1 (pm (A 0)) → swEm n (csRu n L O R Th m f s n.toNat).2.1 (em (A 0)) → aq (A 0) = a0 + (csRu n L O R Th m f s n.toNat).2.2 → so (A 0) = 1 → post (csRu n L O R Th m f s n.toNat).2.2 ai' so pm em aq ma fc) : wpCS_X29_run post kd an ai ar mX29_axioms mX29_reasoner mX29_classes mX29_fuel mX29_above mX29_not mX29_open mX29_under mX29_sorted mX29_placed mX29_empties mX29_asked mX30_fired mX30_many mX30_facts mX30_this_0 mX61_left mX61_right mX61_gone mJ2_elementData mJ2_size (A 0) := by
  have hn := T.2.2.2.2.2
  have hm := T.2.2.2.2.1
  have hA := T.2.2.2.1
  have Sd := D.2.2.2.2.2.1
  have en := D.1.1
  have rs := fun i => csRu_s (f := f) hm.1 hn hA Sd i
  unfold wpCS_X29_run
  intro x1 e1 pm0 e2 em0 e3
  have loop : ∀ (k : Nat) (i : Nat) (ai : Nat → Int → Int) (pm em aq ma fc : Nat → Int), (n - i).toNat < k → (i : Int) ≤ n → swD n f t (csRu n L O R Th m f s i).1 me mX29_classes mX29_fuel mX29_thingCount ai A L O R Th m → swPl n (csRu n L O R Th m f s i).2.1 (pm (A 0)) → mS (em (A 0)) (fun c => (0 ≤ c ∧ c < i) ∧ (csRu n L O R Th m f s i).2.1 c = 0) → aq (A 0) = a0 + (csRu n L O R Th m f s i).2.2 → (∀ c : Int, i ≤ c → (csRu n L O R Th m f s i).2.1 c = 0) →
      wCS_X29_run_17 (fun (ai_27 : Nat → Int → Int) (mX29_placed_28 : Nat → Int) (mX29_empties_29 : Nat → Int) (mX29_asked_30 : Nat → Int) (mX30_many_31 : Nat → Int) (mX30_facts_32 : Nat → Int) => ∀ mX29_sorted_33 : Nat → Int, mX29_sorted_33 = va_up mX29_sorted (A 0) 1 → (zR ((mX29_asked_30 (A 0)) - x1) ∧ ((post ((mX29_asked_30 (A 0)) - x1) ai_27 mX29_sorted_33 mX29_placed_28 mX29_empties_29 mX29_asked_30 mX30_many_31 mX30_facts_32)))) (A 0) kd an ar mX29_axioms mX29_reasoner mX29_classes mX29_fuel mX29_above mX29_not mX29_open mX29_under mX30_fired mX30_this_0 mX61_left mX61_right mX61_gone mJ2_elementData mJ2_size k i ai pm em aq ma fc := by
    intro k
    induction k with
    | zero => intro i ai pm em aq ma fc h; omega
    | succ k ih =>
      intro i ai pm em aq ma fc hk hi D hP hE ea hz
      have r0 := rs i hi
      rw [wCS_X29_run_17, en]
      refine ⟨fun z => ?_, fun z => ?_⟩
      · have ei : i = n.toNat := by omega
        rw [ei] at D hP hE ea r0
        have er : aq (A 0) - x1 = (csRu n L O R Th m f s n.toNat).2.2 := by rw [ea, e1, eq]; omega
        intro so eso
        rw [er]
        refine ⟨by omega, hp ai so pm em aq ma fc D hP (mS_c hE (fun c _ _ => ⟨fun w => ⟨by omega, w.2⟩, fun w => ⟨by omega, w.2⟩⟩)) ea (by rw [eso, va_up_self])⟩
      · have r1 := rs (i + 1) (by omega)
        have st : csRu n L O R Th m f s (i + 1) = csRs n L O R Th m f i (csRu n L O R Th m f s i).1 (csRu n L O R Th m f s i).2.1 (csRu n L O R Th m f s i).2.2 := rfl
        have ihs := fun (ai : Nat → Int → Int) (pm em aq ma fc : Nat → Int) => ih (i + 1) ai pm em aq ma fc (by omega) (by omega)
        have ci : ((i + 1 : Nat) : Int) = (i : Int) + 1 := by omega
        rw [st] at ihs
        rw [ci] at ihs
        generalize csRu n L O R Th m f s i = U at D hP hE ea hz r0 ihs
        obtain ⟨s1, pl1, q1⟩ := U
        dsimp only at D hP hE ea hz r0 ihs
        have qb := csQ1_b (s := s1) (a := (i : Int)) (b := 20) (q := q1)
        have qs : csQ1 s1 i 20 (a0 + q1) = a0 + csQ1 s1 i 20 q1 := by unfold csQ1; split <;> omega
        refine CCS_isBelow S T D ⟨by omega, by omega⟩ csH_20 ea (by omega) (fun ai1 as1 ma1 fc1 D1 ea1 => ?_)
        by_cases w : csLk n L O R Th m f i 20 s1 (21 * (i : Int) + 20) = 1
        · rw [if_pos w]
          have er : csRs n L O R Th m f i s1 pl1 q1 = (csLk n L O R Th m f i 20 s1, pl1, csQ1 s1 i 20 q1) := by unfold csRs; rw [pif_t w]
          rw [er] at ihs
          dsimp only at ihs
          refine ⟨fun q => absurd q (by decide), fun _ => ⟨⟨by omega, by omega⟩, fun v ev em2 eem => ⟨by omega, fun _ e5 => ?_⟩⟩⟩
          subst ev eem e5
          refine ihs ai1 pm _ as1 ma1 fc1 D1 hP ?_ (by rw [ea1, qs]) (fun c hc => hz c (by omega))
          rw [va_up_self]
          refine mS_c (mS_or hE (mS_one ⟨by omega, by omega⟩)) (fun c _ _ => ⟨fun u => ?_, fun u => ?_⟩)
          · rcases u with u | u
            · exact ⟨by omega, u.2⟩
            · exact ⟨by omega, hz c (by omega)⟩
          · by_cases r : c = i
            · exact Or.inr r
            · exact Or.inl ⟨by omega, u.2⟩
        · rw [if_neg w]
          have er : csRs n L O R Th m f i s1 pl1 q1 = ((csGo n L O R Th m f pl1 i 0 21 (csGo n L O R Th m f pl1 i 1 21 (csLk n L O R Th m f i 20 s1) (fun _ => 0) (csQ1 s1 i 20 q1)).1 (fun _ => 0) (csGo n L O R Th m f pl1 i 1 21 (csLk n L O R Th m f i 20 s1) (fun _ => 0) (csQ1 s1 i 20 q1)).2).1, updI pl1 i 1, (csGo n L O R Th m f pl1 i 0 21 (csGo n L O R Th m f pl1 i 1 21 (csLk n L O R Th m f i 20 s1) (fun _ => 0) (csQ1 s1 i 20 q1)).1 (fun _ => 0) (csGo n L O R Th m f pl1 i 1 21 (csLk n L O R Th m f i 20 s1) (fun _ => 0) (csQ1 s1 i 20 q1)).2).2) := by unfold csRs; rw [pif_f w]
          rw [er] at ihs
          dsimp only at ihs
          have g1 := csGo_q (L := L) (O := O) (R := R) (Th := Th) (n := n) (m := m) (f := f) (pl := pl1) (x := (i : Int)) (b := 1) 21 (csLk n L O R Th m f i 20 s1) (fun _ => 0) (csQ1 s1 i 20 q1) a0
          have g2 := csGo_q (L := L) (O := O) (R := R) (Th := Th) (n := n) (m := m) (f := f) (pl := pl1) (x := (i : Int)) (b := 0) 21 (csGo n L O R Th m f pl1 i 1 21 (csLk n L O R Th m f i 20 s1) (fun _ => 0) (csQ1 s1 i 20 q1)).1 (fun _ => 0) (csGo n L O R Th m f pl1 i 1 21 (csLk n L O R Th m f i 20 s1) (fun _ => 0) (csQ1 s1 i 20 q1)).2 a0
          refine ⟨fun _ => ?_, fun q => absurd rfl q⟩
          refine CCS_place S T hP D1 ⟨by omega, by omega⟩ ea1 (by omega) (fun ai2 pm2 as2 ma2 fc2 D2 hP2 ea2 => ⟨by omega, fun _ e5 => ?_⟩)
          subst e5
          rw [qs, g1.1] at D2 ea2
          rw [g1.2] at D2 ea2
          rw [g2.1] at D2
          rw [g2.2] at ea2
          refine ihs ai2 pm2 em as2 ma2 fc2 D2 hP2 ?_ ea2 (fun c hc => by rw [updI_n (by omega)]; exact hz c (by omega))
          refine mS_c hE (fun c _ _ => ⟨fun u => ⟨by omega, by rw [updI_n (by omega)]; exact u.2⟩, fun u => ?_⟩)
          have : c ≠ i := fun r => by
            have u2 := u.2
            rw [r, updI_s] at u2
            exact absurd u2 (by decide)
          rw [updI_n this] at u
          exact ⟨by omega, u.2⟩
  refine ⟨n.toNat + 1, loop (n.toNat + 1) 0 ai pm0 em0 mX29_asked mX30_many mX30_facts (by omega) (by omega) D ?_ ?_ ?_ (fun _ _ => rfl)⟩
  · rw [e2, va_up_self]; exact mS_c mS_0 (fun c _ _ => ⟨fun w => w.elim, fun w => w.2 rfl⟩)
  · rw [e3, va_up_self]; exact mS_c mS_0 (fun c _ _ => ⟨fun w => w.elim, fun w => by omega⟩)
  · rw [eq]; show a0 = a0 + 0; omega
end

/-! ClassifySort: plain laws for the component's answers -/
section
variable {n m f g x y i k c d a b q : Int} {L O R Th s fa fb pl me fi mk ne : Int → Int} {l : List Int} {p r : Int → Prop}
theorem cnt_ex : ∀ {N : Nat} {j : Int}, 0 ≤ j → j < cntI p N → ∃ d : Int, (0 ≤ d ∧ d < N) ∧ csKp p j d
  | 0, j, h0, h1 => by rw [cntI] at h1; omega
  | N + 1, j, h0, h1 => by
    have sp := cntI_s p N
    by_cases w : j < cntI p N
    · obtain ⟨d, hd, hk⟩ := cnt_ex h0 w
      exact ⟨d, by omega, hk⟩
    · by_cases v : p (N : Int)
      · rw [sp.1 v] at h1
        exact ⟨N, by omega, v, by rw [show ((N : Nat) : Int).toNat = N by omega]; omega⟩
      · rw [sp.2 v] at h1; omega
theorem cnt_diff (h : ∀ x : Int, r x → p x) : ∀ N : Nat, cntI p N - cntI r N = cntI (fun x => p x ∧ ¬ r x) N
  | 0 => rfl
  | N + 1 => by
    have ih := cnt_diff h N
    have sp := cntI_s p N
    have sr := cntI_s r N
    have sd := cntI_s (fun x => p x ∧ ¬ r x) N
    by_cases v : p (N : Int)
    · by_cases w : r (N : Int)
      · rw [sp.1 v, sr.1 w, sd.2 (fun u => u.2 w)]; omega
      · rw [sp.1 v, sr.2 w, sd.1 ⟨v, w⟩]; omega
    · have w : ¬ r (N : Int) := fun u => v (h _ u)
      rw [sp.2 v, sr.2 w, sd.2 (fun u => v u.1)]; omega
/-- rows of 21 -/
theorem cnt_row {Q : Int → Prop} (ha : 0 ≤ a) (h : ∀ b, 0 ≤ b → b < 32 → (Q b ↔ b < 21 ∧ p (21 * a + b))) : cntI p (21 * (a + 1)).toNat = cntI p (21 * a).toNat + cntI Q 32 := by
  have e := cntI_add (p := p) (21 * a).toNat 21
  have e2 := cntI_up (p := Q) (n := 21) (m := 32) (by decide) (fun b b0 b1 w => by have := (h b (by omega) (by omega)).mp w; omega)
  have e3 : cntI (fun b => p (((21 * a).toNat : Nat) + b)) 21 = cntI Q 21 := cntI_c (fun b b0 b1 => by
    rw [show (((21 * a).toNat : Nat) : Int) = 21 * a by omega]
    exact ⟨fun w => (h b b0 (by omega)).mpr ⟨by omega, w⟩, fun w => ((h b b0 (by omega)).mp w).2⟩)
  rw [show (21 * (a + 1)).toNat = (21 * a).toNat + 21 by omega, e, e3, e2]
theorem csZ_o (hZ : csZ n s) (hn : 0 ≤ n ∧ n ≤ 20) (h : 21 * n ≤ x) : s x = 3 := hZ x (fun w => by have := w.1; omega)
theorem cnt_all (hZ : csZ n s) (hn : 0 ≤ n ∧ n ≤ 20) (h3 : ∀ x, p x → ¬ s x = 3) : cntI p 420 = cntI p (21 * n).toNat := (cntI_up (by omega) (fun j a b w => h3 j w (csZ_o hZ hn (by omega)))).symm
/-- what is known of a class -/
theorem csZ_h (hZ : csZ n s) (ha : 0 ≤ a) (hn : n ≤ 20) (b0 : 0 ≤ b) (b1 : b < 21) (h : ¬ s (21 * a + b) = 3) : a < n ∧ csH n b := by
  have w : ¬ ¬ ((0 ≤ 21 * a + b ∧ (21 * a + b) / 21 < n) ∧ csH n ((21 * a + b) % 21)) := fun q => h (hZ _ q)
  have w := Classical.not_not.mp w
  rw [show (21 * a + b) / 21 = a by omega, show (21 * a + b) % 21 = b by omega] at w
  exact ⟨w.1.2, w.2⟩
/-- one beneath, then one directly beneath -/
theorem csDi_ex (hK : csK n L O R Th m s) (hn : 0 ≤ n ∧ n ≤ 20) (hd : 0 ≤ d ∧ d < n) (pd : ¬ pl d = 0) : ∀ (N : Nat) (e : Int), cntI (fun z => ¬ pl z = 0 ∧ csU s e z ∧ csU s z d) n.toNat < N → 0 ≤ e → e < n → ¬ pl e = 0 → csU s e d → csHb n s pl d
  | 0, e, h, _, _, _, _ => by
    have := cntI_b (fun z => ¬ pl z = 0 ∧ csU s e z ∧ csU s z d) n.toNat
    omega
  | N + 1, e, h, e0, e1, pe, ue => by
    by_cases w : ∃ z, (0 ≤ z ∧ z < n) ∧ ¬ pl z = 0 ∧ csU s e z ∧ csU s z d
    · obtain ⟨z, hz, pz, u1, u2⟩ := w
      have lt : cntI (fun y => ¬ pl y = 0 ∧ csU s z y ∧ csU s y d) n.toNat < cntI (fun y => ¬ pl y = 0 ∧ csU s e y ∧ csU s y d) n.toNat := by
        refine (cntI_lt (fun y y0 y1 w => ⟨w.1, ⟨csK_t hK (csH_l e0 e1) (csH_l hz.1 hz.2) (csH_l y0 (by omega)) u1.1 w.2.1.1, fun q => u1.2 ?_⟩, w.2.2⟩)).2 ⟨z, ⟨hz.1, by omega⟩, ⟨pz, u1, u2⟩, fun w => w.2.1.2 w.2.1.1⟩
        exact csK_t hK (csH_l hz.1 hz.2) (csH_l y0 (by omega)) (csH_l e0 e1) w.2.1.1 q
      exact csDi_ex hK hn hd pd N z (by omega) hz.1 hz.2 pz u2
    · exact ⟨e, ⟨e0, e1⟩, pe, pd, ue, fun z z0 z1 q => w ⟨z, ⟨z0, z1⟩, q⟩⟩
theorem csHb_i (hK : csK n L O R Th m s) (hn : 0 ≤ n ∧ n ≤ 20) (hd : 0 ≤ d ∧ d < n) (pd : ¬ pl d = 0) : (∀ e, 0 ≤ e → e < n → ¬ pl e = 0 → csB s e d → csB s d e) ↔ ¬ csHb n s pl d := by
  constructor
  · rintro h ⟨c, hc, pc, D⟩
    exact D.2.1.2 (h c hc.1 hc.2 pc D.2.1.1)
  · intro h e e0 e1 pe w
    refine Classical.byContradiction (fun q => h ?_)
    have b := cntI_b (fun z => ¬ pl z = 0 ∧ csU s e z ∧ csU s z d) n.toNat
    exact csDi_ex hK hn hd pd (n.toNat + 1) e (by omega) e0 e1 pe ⟨w, q⟩
/-- of nothing nothing follows -/
theorem csAn_0 (hm : 0 ≤ m) (hA : csAx n L O R m) (hn : n ≤ 20) (hg : 0 ≤ g ∧ g ≤ 20) (h : ∀ c, 0 ≤ c → c ≤ 20 → fa c = 0) : (csAn L O R Th m f g fa).1 = 0 := by
  have N := csNx_s (L := L) (O := O) (R := R) (Th := Th) (fa := fa) hm
  have e : csNx L O R Th m fa = m := by
    refine Classical.byContradiction (fun w => ?_)
    have F := N.2.1 (by omega)
    have A := hA _ N.1.1 (by omega)
    exact F.2.1 (h _ A.1.1 (by omega))
  unfold csAn csRun
  rw [pif_f (fun w => w.elim (fun w => w (h g hg.1 hg.2)) (fun w => w (h 20 (by decide) (by decide)))), pif_t e]
theorem csAn_c (hm : 0 ≤ m) (hn : n ≤ 20) (hA : csAx n L O R m) (hg : 0 ≤ g ∧ g ≤ 20) (h : ∀ x, 0 ≤ x → x ≤ 20 → fa x = fb x) : (csAn L O R Th m f g fa).1 = (csAn L O R Th m f g fb).1 ∧ (csAn L O R Th m f g fa).2.2 = (csAn L O R Th m f g fb).2.2 := csRun_c hm hn hA hg 22 fa fb [] h
/-- a place as it is told -/
noncomputable def csOa (s : Int → Int) (i : Int) : Int := pif (csKt (fun x => s x = 2) 420 i = -6) (-6) (32 * (csKt (fun x => s x = 2) 420 i / 21) + if csKt (fun x => s x = 2) 420 i % 21 = 20 then 31 else csKt (fun x => s x = 2) 420 i % 21)
/-- what is lost -/
theorem csLo_d (h : ∀ x, ¬ fa x = 3 → ¬ s x = 3) : cntI (fun x => ¬ s x = 3) 420 - cntI (fun x => ¬ fa x = 3) 420 = csLo s fa := by
  rw [cnt_diff h]
  unfold csLo
  exact cntI_c (fun x _ _ => ⟨fun w => ⟨w.1, Classical.not_not.mp w.2⟩, fun w => ⟨w.1, fun q => q w.2⟩⟩)
theorem csFg_v {one : Int} (y : Int) : csFg n L O R Th m x one s y = s y ∨ (csFg n L O R Th m x one s y = 3 ∧ (s y = one ∨ s y = 2)) := by
  unfold csFg
  by_cases w : (0 ≤ y ∧ y / 21 < n) ∧ csTc L O R Th m (y / 21) x ∧ (s y = one ∨ s y = 2)
  · rw [pif_t w]; exact Or.inr ⟨rfl, w.2.2⟩
  · rw [pif_f w]; exact Or.inl rfl
/-- one axiom less: nothing new is known -/
theorem csRm_le (hn : n ≤ 20) (hK : csK n L O R Th m s) : ∀ y, ¬ csCl n L O R (updI Th x 0) m (csFg n L O R Th m x 1 s) y = 3 → ¬ s y = 3 := fun y h e3 => by
  have fg : csFg n L O R Th m x 1 s y = 3 := by
    rcases csFg_v (n := n) (L := L) (O := O) (R := R) (Th := Th) (m := m) (x := x) (s := s) (one := 1) y with w | w
    · rw [w, e3]
    · exact w.1
  have up : ∀ u v, csH n u → csH n v → csY n (csB0 L O R (updI Th x 0) m (csFg n L O R Th m x 1 s)) u v → csY n (csB0 L O R Th m s) u v := fun u v _ _ w => csY_m (fun x' y' hx hy v => by
    rcases v with v | v | v | v
    · exact csY_b hx hy (Or.inl v)
    · exact csY_b hx hy (Or.inr (Or.inl v))
    · rcases csFg_v (n := n) (L := L) (O := O) (R := R) (Th := Th) (m := m) (x := x) (s := s) (one := 1) (21 * x' + y') with w | w
      · exact csY_b hx hy (Or.inr (Or.inr (Or.inl (w.symm.trans v))))
      · omega
    · obtain ⟨k, hk, w1, w2⟩ := v
      refine csY_b hx hy (Or.inr (Or.inr (Or.inr ⟨k, hk, fun q => w1 ?_, w2⟩)))
      by_cases z : k = x
      · rw [z, updI_s]
      · rw [updI_n z]; exact q) w
  unfold csCl at h
  by_cases r : (0 ≤ y ∧ y / 21 < n) ∧ csH n (y % 21)
  · rw [pif_t r] at h
    have ey : 21 * (y / 21) + y % 21 = y := by omega
    have hu : csH n (y / 21) := csH_l (by omega) r.1.2
    by_cases w : csY n (csB0 L O R (updI Th x 0) m (csFg n L O R Th m x 1 s)) (y / 21) (y % 21)
    · have := hK.1 _ _ hu r.2 (up _ _ hu r.2 w)
      rcases this with q | q
      · omega
      · rw [ey] at q; omega
    · rw [pif_f w] at h
      by_cases v : csNo n (csB0 L O R (updI Th x 0) m (csFg n L O R Th m x 1 s)) (csFg n L O R Th m x 1 s) (y / 21) (y % 21)
      · obtain ⟨a', b', ⟨h1, h2⟩, h3, h4, h5⟩ := v
        have s0 : s (21 * a' + b') = 0 := by
          rcases csFg_v (n := n) (L := L) (O := O) (R := R) (Th := Th) (m := m) (x := x) (s := s) (one := 1) (21 * a' + b') with w | w <;> omega
        have := hK.2 (y / 21) (y % 21) ⟨by omega, r.1.2⟩ r.2 ⟨a', b', ⟨h1, h2⟩, s0, up _ _ (csH_l h1.1 h1.2) hu h4, up _ _ r.2 h2 h5⟩
        rw [ey] at this
        omega
      · rw [pif_f v] at h; exact h fg
  · rw [pif_f r] at h; exact h fg
/-- an axiom needs nothing that comes with it or later -/
def csOd (L O R : Int → Int) (l : List Int) : Prop := ∀ i j : Nat, i ≤ j → j < l.length → ¬ L (l.getD i 0) = R (l.getD j 0) ∧ ¬ O (l.getD i 0) = R (l.getD j 0)
theorem getD_l {l : List Int} {v : Int} {i : Nat} (h : i < l.length) : (l ++ [v]).getD i 0 = l.getD i 0 := by
  simp [List.getD_eq_getElem?_getD, List.getElem?_append_left h]
theorem getD_e {l : List Int} {v : Int} : (l ++ [v]).getD l.length 0 = v := by simp
theorem getD_m {l : List Int} {i : Nat} (h : i < l.length) : l.getD i 0 ∈ l := by
  rw [List.getD_eq_getElem?_getD, List.getElem?_eq_getElem h]
  exact List.getElem_mem h
theorem csRun_od (hm : 0 ≤ m) (hA : csAx n L O R m) (hn : n ≤ 20) : ∀ (d : Nat) (fa : Int → Int) (l : List Int) (r : Int) (fa' : Int → Int) (l' : List Int), csOd L O R l → (∀ k, k ∈ l → ¬ fa (L k) = 0 ∧ (O k < 0 ∨ ¬ fa (O k) = 0)) → csRun L O R Th m f g d fa l = (r, fa', l') → csOd L O R l'
  | 0, fa, l, r, fa', l', h, _, e => by
    unfold csRun at e
    have e2 : l = l' := congrArg (fun z => z.2.2) e
    rw [← e2]; exact h
  | d + 1, fa, l, r, fa', l', h, hf, e => by
    unfold csRun at e
    have same : (∀ q : Int, (q, fa, l) = (r, fa', l') → csOd L O R l') := fun q e3 => by
      have e2 : l = l' := congrArg (fun z => z.2.2) e3
      rw [← e2]; exact h
    by_cases w : ¬ fa g = 0 ∨ ¬ fa 20 = 0
    · rw [pif_t w] at e; exact same _ e
    rw [pif_f w] at e
    by_cases w2 : csNx L O R Th m fa = m
    · rw [pif_t w2] at e; exact same _ e
    rw [pif_f w2] at e
    by_cases w3 : (l.length : Int) = f
    · rw [pif_t w3] at e; exact same _ e
    rw [pif_f w3] at e
    have S := csNx_s (L := L) (O := O) (R := R) (Th := Th) (fa := fa) hm
    have F := S.2.1 (by omega)
    have A := hA _ S.1.1 (by omega)
    have A20 := csH_b hn A.2.2
    refine csRun_od hm hA hn d _ _ r fa' l' (fun i j hij hj => ?_) (fun k hk => ?_) e
    · rw [List.length_append, List.length_singleton] at hj
      have ne : ∀ k, ¬ fa (L k) = 0 ∧ (O k < 0 ∨ ¬ fa (O k) = 0) → ¬ L k = R (csNx L O R Th m fa) ∧ ¬ O k = R (csNx L O R Th m fa) := fun k hk => ⟨fun q => hk.1 (by rw [q]; exact F.2.2.2), fun q => by
        rcases hk.2 with o | o
        · omega
        · exact o (by rw [q]; exact F.2.2.2)⟩
      by_cases ej : j = l.length
      · rw [ej, getD_e]
        by_cases ei : i = l.length
        · rw [ei, getD_e]; exact ne _ ⟨F.2.1, F.2.2.1⟩
        · have hi : i < l.length := by omega
          rw [getD_l hi]; exact ne _ (hf _ (getD_m hi))
      · have hj' : j < l.length := by omega
        have hi : i < l.length := by omega
        rw [getD_l hi, getD_l hj']; exact h i j hij hj'
    · have mono : ∀ c, ¬ fa c = 0 → ¬ updI fa (R (csNx L O R Th m fa)) 1 c = 0 := fun c w => by
        by_cases z : c = R (csNx L O R Th m fa)
        · rw [z, updI_s]; decide
        · rw [updI_n z]; exact w
      rcases List.mem_append.mp hk with b | b
      · have := hf k b
        exact ⟨mono _ this.1, this.2.imp id (mono _)⟩
      · rw [List.mem_singleton] at b
        rw [b]
        exact ⟨mono _ F.2.1, F.2.2.1.imp id (mono _)⟩
/-- no more fire than there is fuel -/
theorem csRun_lf : ∀ (d : Nat) (fa : Int → Int) (l : List Int), (l.length : Int) ≤ f → ((csRun L O R Th m f g d fa l).2.2.length : Int) ≤ f
  | 0, fa, l, h => h
  | d + 1, fa, l, h => by
    unfold csRun
    by_cases w : ¬ fa g = 0 ∨ ¬ fa 20 = 0
    · rw [pif_t w]; exact h
    rw [pif_f w]
    by_cases w2 : csNx L O R Th m fa = m
    · rw [pif_t w2]; exact h
    rw [pif_f w2]
    by_cases w3 : (l.length : Int) = f
    · rw [pif_t w3]; exact h
    rw [pif_f w3]
    exact csRun_lf d _ _ (by rw [List.length_append, List.length_singleton]; omega)
/-- wanted, from the t-th fired down -/
def csWn (L O R fi : Int → Int) : Nat → (Int → Prop) → Int → Prop
  | 0, W => W
  | t + 1, W => csWn L O R fi t (fun c => W c ∨ (W (R (fi t)) ∧ (c = L (fi t) ∨ (0 ≤ O (fi t) ∧ c = O (fi t)))))
/-- places of those needed -/
def csWp (L O R fi : Int → Int) : Nat → (Int → Prop) → (Int → Prop) → Int → Prop
  | 0, _, Z => Z
  | t + 1, W, Z => csWp L O R fi t (fun c => W c ∨ (W (R (fi t)) ∧ (c = L (fi t) ∨ (0 ≤ O (fi t) ∧ c = O (fi t))))) (fun j => Z j ∨ (W (R (fi t)) ∧ j = t))
theorem csWp_ne (hA : csAx n L O R m) (hd : csDj R l) (ho : csOd L O R l) (hk : csMk R mk l) (hb : ∀ k, k ∈ l → 0 ≤ k ∧ k < m) (hq : vtQ fi 0 l) (hn : 0 ≤ n ∧ n ≤ 20) : ∀ (t : Nat) (ne : Int → Int) (W Z : Int → Prop), t ≤ l.length → (∀ j : Nat, j < t → (¬ ne (fi j) = 0 ↔ W (R (fi j)))) → (∀ j : Nat, t ≤ j → j < l.length → (¬ ne (fi j) = 0 ↔ Z j)) → (∀ j : Nat, j < t → ¬ Z j) → ∀ j : Nat, j < l.length → (¬ csNe L O mk fi t ne (fi j) = 0 ↔ csWp L O R fi t W Z j)
  | 0, ne, W, Z, _, _, h2, _, j, hj => h2 j (Nat.zero_le _) hj
  | t + 1, ne, W, Z, ht, h1, h2, h3, j, hj => by
    have el : ∀ j : Nat, j < l.length → fi j = l.getD j 0 := fun j hj => by have := hq j hj; rw [Int.zero_add] at this; exact this
    have me : ∀ j : Nat, j < l.length → fi j ∈ l := fun j hj => by rw [el j hj]; exact getD_m hj
    have tl : t < l.length := by omega
    have kt := hb _ (me t tl)
    have A := hA _ kt.1 kt.2
    unfold csNe csWp
    -- who makes c among those fired
    have mkc : ∀ (c : Int), 0 ≤ c → c ≤ 20 → ∀ j : Nat, j < l.length → (fi j = mk c ↔ R (fi j) = c) := fun c c0 c1 j hj => by
      rcases hk c c0 c1 with w | w
      · exact ⟨fun q => by have := (hb _ (me j hj)).1; omega, fun q => absurd q (w.2 _ (me j hj))⟩
      · exact ⟨fun q => by rw [q]; exact w.2, fun q => hd _ _ (me j hj) w.1 (by rw [q, w.2])⟩
    have mkn : ∀ (c : Int), 0 ≤ c → c ≤ 20 → mk c < 0 → ∀ j : Nat, j < l.length → ¬ R (fi j) = c := fun c c0 c1 w j hj q => by
      have := (mkc c c0 c1 j hj).mpr q
      have := (hb _ (me j hj)).1
      omega
    by_cases w : ne (fi t) = 0
    · have nW : ¬ W (R (fi t)) := fun q => (h1 t (by omega)).mpr q w
      rw [pif_t w]
      refine csWp_ne hA hd ho hk hb hq hn t ne _ _ (by omega) (fun j hj => (h1 j (by omega)).trans ⟨Or.inl, fun q => q.elim id (fun q => absurd q.1 nW)⟩) (fun j j0 j1 => ?_) (fun j hj q => q.elim (h3 j (by omega)) (fun q => nW q.1)) j hj
      by_cases e : j = t
      · rw [e]; exact ⟨fun q => absurd w q, fun q => q.elim (fun q => absurd q (h3 t (by omega))) (fun q => absurd q.1 nW)⟩
      · exact (h2 j (by omega) j1).trans ⟨Or.inl, fun q => q.elim id (fun q => absurd q.1 nW)⟩
    · have yW : W (R (fi t)) := (h1 t (by omega)).mp w
      rw [pif_f w]
      -- what the step does to those fired
      have up : ∀ (c : Int), 0 ≤ c → c ≤ 20 → ∀ (ne : Int → Int) (j : Nat), j < l.length → (¬ pif (mk c < 0) ne (updI ne (mk c) 1) (fi j) = 0 ↔ ¬ ne (fi j) = 0 ∨ R (fi j) = c) := fun c c0 c1 ne j hj => by
        by_cases z : mk c < 0
        · rw [pif_t z]; exact ⟨Or.inl, fun q => q.elim id (fun q => absurd q (mkn c c0 c1 z j hj))⟩
        · rw [pif_f z]
          by_cases u : fi j = mk c
          · rw [u, updI_s, ← u]; exact ⟨fun _ => Or.inr ((mkc c c0 c1 j hj).mp u), fun _ => by decide⟩
          · rw [updI_n u]; exact ⟨Or.inl, fun q => q.elim id (fun q => absurd ((mkc c c0 c1 j hj).mpr q) u)⟩
      have step : ∀ j : Nat, j < l.length → (¬ csN1 L O mk (fi t) ne (fi j) = 0 ↔ ¬ ne (fi j) = 0 ∨ (R (fi j) = L (fi t) ∨ (0 ≤ O (fi t) ∧ R (fi j) = O (fi t)))) := fun j hj => by
        unfold csN1 csN2
        have u1 := up (L (fi t)) A.1.1 (by omega) ne j hj
        by_cases o : O (fi t) < 0
        · rw [pif_t o, u1]; exact ⟨fun q => q.imp id Or.inl, fun q => q.imp id (fun q => q.elim id (fun q => by omega))⟩
        · rw [pif_f o, up (O (fi t)) (by omega) (by omega) _ j hj, u1]
          exact ⟨fun q => q.elim (fun q => q.imp id Or.inl) (fun q => Or.inr (Or.inr ⟨by omega, q⟩)), fun q => q.elim (fun q => Or.inl (Or.inl q)) (fun q => q.elim (fun q => Or.inl (Or.inr q)) (fun q => Or.inr q.2))⟩
      -- nothing fired at t or later is needed by t
      have late : ∀ j : Nat, t ≤ j → j < l.length → ¬ (R (fi j) = L (fi t) ∨ (0 ≤ O (fi t) ∧ R (fi j) = O (fi t))) := fun j j0 j1 q => by
        have := ho t j j0 j1
        rw [← el t tl, ← el j j1] at this
        exact q.elim (fun q => this.1 q.symm) (fun q => this.2 q.2.symm)
      refine csWp_ne hA hd ho hk hb hq hn t _ _ _ (by omega) (fun j hj => (step j (by omega)).trans ⟨fun q => q.elim (fun q => Or.inl ((h1 j (by omega)).mp q)) (fun q => Or.inr ⟨yW, q⟩), fun q => q.elim (fun q => Or.inl ((h1 j (by omega)).mpr q)) (fun q => Or.inr q.2)⟩) (fun j j0 j1 => (step j j1).trans ?_) (fun j hj q => q.elim (h3 j (by omega)) (fun q => by have := q.2; omega)) j hj
      by_cases e : j = t
      · rw [e]; exact ⟨fun _ => Or.inr ⟨yW, rfl⟩, fun _ => Or.inl w⟩
      · exact ⟨fun q => q.elim (fun q => Or.inl ((h2 j (by omega) j1).mp q)) (fun q => absurd q (late j j0 j1)), fun q => q.elim (fun q => Or.inl ((h2 j (by omega) j1).mpr q)) (fun q => by have := q.2; omega)⟩
end

/-! ClassifySort, the component (room CS): what is told -/
section
variable {kd : Nat → Nat} {an : Nat → Nat} {ai : Nat → Int → Int} {al : Nat → Int → Int} {ar : Nat → Int → Option Nat} {mX29_axioms : Nat → Option Nat} {mX29_reasoner : Nat → Option Nat} {mX29_classes : Nat → Int} {mX29_things : Nat → Option Nat} {mX29_thingCount : Nat → Int} {mX29_fuel : Nat → Int} {mX29_above : Nat → Option Nat} {mX29_not : Nat → Option Nat} {mX29_open : Nat → Option Nat} {mX29_under : Nat → Option Nat} {mX29_sorted : Nat → Int} {mX29_placed : Nat → Int} {mX29_empties : Nat → Int} {mX29_asked : Nat → Int} {mX30_fired : Nat → Option Nat} {mX30_many : Nat → Int} {mX30_facts : Nat → Int} {mX30_this_0 : Nat → Option Nat} {mX61_left : Nat → Int} {mX61_right : Nat → Int} {mX61_gone : Nat → Int} {mJ1_modCount : Nat → Int} {mJ2_elementData : Nat → Option Nat} {mJ2_size : Nat → Int} {sa : Nat → Nat} {A : Nat → Nat} {L O R Th s fa pl lk me fi : Int → Int} {n m f g t x y i k c d a b q v w z : Int} {e : Nat} {fx : Int → Nat} {P Q : Int → Prop}
theorem CCS_firsts {post : Int → Prop} (S : swF kd an mX29_axioms mX29_reasoner mX29_things mX29_above mX29_not mX29_open mX29_under mX30_fired mX30_this_0 A) (hS : swS n s (ai (A 4)) (ai (A 5)) (ai (A 6)) (ai (A 7))) (hn : 0 ≤ n ∧ n ≤ 20) (en : mX29_classes (A 0) = n) (hP : swPl n pl (mX29_placed (A 0))) (hx : mS x P) (hp : ∀ v, mS v (fun c => (0 ≤ c ∧ c < n) ∧ P c ∧ ¬ csSe s pl c) → post v) : wpCS_X29_firsts post kd an ai mX29_classes mX29_above mX29_under mX29_placed (A 0) x := by
  unfold wpCS_X29_firsts
  refine wl2 (fun u v c => wCS_X29_firsts_4 _ (A 0) x kd an ai mX29_classes mX29_above mX29_under mX29_placed u v c) (fun v c => (0 ≤ c ∧ c ≤ n) ∧ mS v (fun d => (0 ≤ d ∧ d < c) ∧ P d ∧ ¬ csSe s pl d)) (fun _ c => (n - c).toNat) ?_ 0 0 ⟨by omega, mS_c mS_0 (fun d _ _ => ⟨fun w => w.elim, fun w => by omega⟩)⟩
  rintro v c ⟨hc, hv⟩ u ih
  rw [wCS_X29_firsts_4, en]
  have skip : ¬ (P c ∧ ¬ csSe s pl c) → c < n → mS v (fun d => (0 ≤ d ∧ d < c + 1) ∧ P d ∧ ¬ csSe s pl d) := fun w _ => mS_c hv (fun d _ _ => ⟨fun h => ⟨by omega, h.2⟩, fun h => ⟨by
    have : d ≠ c := fun q => w (by rw [← q]; exact h.2)
    omega, h.2⟩⟩)
  refine ⟨fun z => hp v (mS_c hv (fun d _ _ => ⟨fun w => ⟨by omega, w.2⟩, fun w => ⟨by omega, w.2⟩⟩)), fun z => CCS_hasB hx hc.1 (by omega) (fun w => CCS_same S hS hn (csH_l hc.1 (by omega)) (fun sm hsm => ⟨⟨hc.1, by omega⟩, ?_⟩)) (fun w => ⟨by omega, fun _ e1 => ?_⟩)⟩
  · have lo := mS_low (j := c) ⟨hc.1, by omega⟩
    have hz : zand (zand sm (mX29_placed (A 0))) (2 ^ c.toNat - 1) = 0 ↔ ¬ csSe s pl c := by
      rw [mS_dj (mS_and hsm hP) lo]
      constructor
      · rintro h ⟨e, he, pe, B1, B2⟩
        exact h e he.1 (by omega) ⟨⟨⟨csH_l he.1 (by omega), B2, B1⟩, ⟨he.1, by omega⟩, pe⟩, he.2⟩
      · intro h d d0 d1 w
        exact h ⟨d, ⟨d0, w.2⟩, w.1.2.2, w.1.1.2.2, w.1.1.2.1⟩
    rw [hz]
    refine ⟨fun ns _ e1 => ⟨by omega, fun _ e2 => ?_⟩, fun ns => ⟨by omega, fun _ e2 => ?_⟩⟩
    · subst e1 e2
      refine ih _ _ ⟨by omega, mS_c (mS_or hv (mS_one ⟨hc.1, by omega⟩)) (fun d _ _ => ⟨fun h => h.elim (fun h => ⟨by omega, h.2⟩) (fun h => by rw [h]; exact ⟨by omega, w, ns⟩), fun h => ?_⟩)⟩ (by omega)
      by_cases q : d = c
      · exact Or.inr q
      · exact Or.inl ⟨by omega, h.2⟩
    · subst e2
      exact ih _ _ ⟨by omega, skip (fun q => ns q.2) (by omega)⟩ (by omega)
  · subst e1
    exact ih _ _ ⟨by omega, skip (fun q => w q.1) (by omega)⟩ (by omega)
theorem CCS_refusalB {Y : Prop} {post : Int → Prop} {so : Int} (en : mX29_classes (A 0) = n) (es : mX29_sorted (A 0) = so) (h1 : ¬ (0 ≤ c ∧ c < n) → post (-1)) (h3 : 0 ≤ c ∧ c < n → so = 0 → post (-3)) (h0 : 0 ≤ c ∧ c < n → ¬ so = 0 → Y) : wpCS_X29_refusal (fun r => (0 ≤ r → Y) ∧ (¬ 0 ≤ r → post r)) mX29_classes mX29_sorted (A 0) c := by
  unfold wpCS_X29_refusal
  rw [es]
  exact CCS_isClassB en (fun w => ⟨fun z => ⟨fun q => absurd q (by decide), fun _ => h3 w z⟩, fun z => ⟨fun _ => h0 w z, fun q => absurd (by decide) q⟩⟩) (fun w => ⟨fun q => absurd q (by decide), fun _ => h1 w⟩)
/-- the sorted state, as the component has it -/
def swQ (n so : Int) (pl : Int → Int) (mX29_sorted mX29_placed mX29_empties : Nat → Int) (A : Nat → Nat) : Prop := mX29_sorted (A 0) = so ∧ (¬ so = 0 → swPl n pl (mX29_placed (A 0)) ∧ swEm n pl (mX29_empties (A 0)))
theorem csKt_n2 {p : Int → Prop} (hn : 0 ≤ n ∧ n ≤ 20) (e : ∀ k, 0 ≤ k → k < 32 → (P k ↔ (0 ≤ k ∧ k < n) ∧ p k)) : csKt P 32 i = csKt p n.toNat i := csKt_e (by omega) (fun k a b => (e k a b).trans ⟨fun w => ⟨by omega, w.2⟩, fun w => ⟨by omega, w.2⟩⟩)
theorem CCS_parent {post : Int → Prop} {so : Int} (S : swF kd an mX29_axioms mX29_reasoner mX29_things mX29_above mX29_not mX29_open mX29_under mX30_fired mX30_this_0 A) (T : swA kd an ar mX61_left mX61_right mX61_gone mJ2_elementData mJ2_size (sa 0) (A 1) L O R Th n m e fx) (D : swD n f t s me mX29_classes mX29_fuel mX29_thingCount ai A L O R Th m) (Qs : swQ n so pl mX29_sorted mX29_placed mX29_empties A) (hi : zR i) (h1 : ¬ (0 ≤ c ∧ c < n) → post (-1)) (h3 : 0 ≤ c ∧ c < n → so = 0 → post (-3)) (h0 : 0 ≤ c ∧ c < n → ¬ so = 0 → post (csKt (csPp n s pl c) n.toNat i)) : wpCS_X29_parent post kd an ai mX29_classes mX29_above mX29_under mX29_sorted mX29_placed mX29_empties (A 0) c i := by
  have hn := T.2.2.2.2.2
  obtain ⟨⟨en, ef, et⟩, hf, ht, hS, hM, hSd, hK, hV, hZ⟩ := id D
  unfold wpCS_X29_parent
  refine CCS_refusalB en Qs.1 h1 h3 (fun hc hs => ?_)
  obtain ⟨hP, hE⟩ := Qs.2 hs
  have H := h0 hc hs
  refine CCS_hasB hE hc.1 (by omega) (fun w => CCS_ends S hS hn en hP (fun v hv => CCS_firsts S hS hn en hP hv (fun v2 hv2 => CCS_of hv2 (fun w => by omega) hi ?_))) (fun w => CCS_dAbove S hS hn en hP hc (fun v hv => CCS_firsts S hS hn en hP hv (fun v2 hv2 => CCS_of hv2 (fun w => by omega) hi ?_)))
  · rw [csKt_n2 (p := csPp n s pl c) hn (fun d d0 d1 => ⟨fun u => ⟨u.1, u.2.1.2.1.2, u.2.2, fun q => absurd w.2 q, fun _ => (csHb_i hK hn u.1 u.2.1.2.1.2).mp (fun e e0 e1 pe be => (u.2.1.2.2 e (csH_l e0 e1) ⟨⟨e0, e1⟩, pe⟩).1 (by decide) be)⟩, fun u => ⟨u.1, ⟨u.1, ⟨u.1, u.2.1⟩, fun e he pe => ⟨fun _ be => (csHb_i hK hn u.1 u.2.1).mpr (u.2.2.2.2 w.2) e pe.1.1 pe.1.2 pe.2 be, fun q => absurd q (by decide)⟩⟩, u.2.2.1⟩⟩)]
    exact H
  · have pc : ¬ pl c = 0 := fun q => w ⟨hc, q⟩
    rw [csKt_n2 (p := csPp n s pl c) hn (fun d d0 d1 => ⟨fun u => ⟨u.1, u.2.1.2.1, u.2.2, fun _ => u.2.1.2, fun q => absurd q pc⟩, fun u => ⟨u.1, ⟨u.1, u.2.2.2.1 pc⟩, u.2.2.1⟩⟩)]
    exact H
theorem CCS_child {post : Int → Prop} {so : Int} (S : swF kd an mX29_axioms mX29_reasoner mX29_things mX29_above mX29_not mX29_open mX29_under mX30_fired mX30_this_0 A) (T : swA kd an ar mX61_left mX61_right mX61_gone mJ2_elementData mJ2_size (sa 0) (A 1) L O R Th n m e fx) (D : swD n f t s me mX29_classes mX29_fuel mX29_thingCount ai A L O R Th m) (Qs : swQ n so pl mX29_sorted mX29_placed mX29_empties A) (hi : zR i) (h1 : ¬ (0 ≤ c ∧ c < n) → post (-1)) (h3 : 0 ≤ c ∧ c < n → so = 0 → post (-3)) (h0 : 0 ≤ c ∧ c < n → ¬ so = 0 → post (csKt (csPc n s pl c) n.toNat i)) : wpCS_X29_child post kd an ai mX29_classes mX29_above mX29_under mX29_sorted mX29_placed mX29_empties (A 0) c i := by
  have hn := T.2.2.2.2.2
  obtain ⟨⟨en, ef, et⟩, hf, ht, hS, hM, hSd, hK, hV, hZ⟩ := id D
  unfold wpCS_X29_child
  refine CCS_refusalB en Qs.1 h1 h3 (fun hc hs => ?_)
  obtain ⟨hP, hE⟩ := Qs.2 hs
  have H := h0 hc hs
  refine CCS_hasB hE hc.1 (by omega) (fun w => ?_) (fun w => ?_)
  · rw [csKt_n (fun j _ _ u => u.1.1 w.2)] at H
    exact H
  · have pc : ¬ pl c = 0 := fun q => w ⟨hc, q⟩
    refine CCS_dBelow S hS hn en hP hc pc (fun v hv => CCS_firsts S hS hn en hP hv (fun v2 hv2 => CCS_of hv2 (fun w => by omega) hi ?_))
    rw [csKt_n2 (p := csPc n s pl c) hn (fun d d0 d1 => ⟨fun u => ⟨u.1, pc, u.2.1.2.1, u.2.2, u.2.1.2.2⟩, fun u => ⟨u.1, ⟨u.1, u.2.2.1, u.2.2.2.2⟩, u.2.2.2.1⟩⟩)]
    exact H
theorem CCS_equal {post : Int → Prop} {so : Int} (S : swF kd an mX29_axioms mX29_reasoner mX29_things mX29_above mX29_not mX29_open mX29_under mX30_fired mX30_this_0 A) (T : swA kd an ar mX61_left mX61_right mX61_gone mJ2_elementData mJ2_size (sa 0) (A 1) L O R Th n m e fx) (D : swD n f t s me mX29_classes mX29_fuel mX29_thingCount ai A L O R Th m) (es : mX29_sorted (A 0) = so) (hi : zR i) (h1 : ¬ (0 ≤ c ∧ c < n) → post (-1)) (h3 : 0 ≤ c ∧ c < n → so = 0 → post (-3)) (h0 : 0 ≤ c ∧ c < n → ¬ so = 0 → post (csKt (fun d => csB s c d ∧ csB s d c) n.toNat i)) : wpCS_X29_equal post kd an ai mX29_classes mX29_above mX29_under mX29_sorted (A 0) c i := by
  have hn := T.2.2.2.2.2
  obtain ⟨⟨en, ef, et⟩, hf, ht, hS, hM, hSd, hK, hV, hZ⟩ := id D
  unfold wpCS_X29_equal
  refine CCS_refusalB en es h1 h3 (fun hc hs => CCS_same S hS hn (csH_l hc.1 hc.2) (fun v hv => ?_))
  have p := pw31 (j := n) ⟨hn.1, by omega⟩
  have lo := mS_low (j := n) ⟨hn.1, by omega⟩
  unfold wpCS_X29_all
  rw [en]
  refine ⟨⟨hn.1, by omega⟩, ⟨by omega, by omega⟩, CCS_of (mS_and hv lo) (fun w => by have := w.2; omega) hi ?_⟩
  rw [csKt_n2 (p := fun d => csB s c d ∧ csB s d c) hn (fun d d0 d1 => ⟨fun u => ⟨⟨d0, u.2⟩, u.1.2⟩, fun u => ⟨⟨csH_l d0 u.1.2, u.2⟩, u.1.2⟩⟩)]
  exact h0 hc hs
theorem CCS_empty {post : Int → Prop} {so : Int} (hn : 0 ≤ n ∧ n ≤ 20) (Qs : swQ n so pl mX29_sorted mX29_placed mX29_empties A) (hi : zR i) (h3 : so = 0 → post (-3)) (h0 : ¬ so = 0 → post (csKt (fun d => pl d = 0) n.toNat i)) : wpCS_X29_empty post mX29_sorted mX29_empties (A 0) i := by
  unfold wpCS_X29_empty
  rw [Qs.1]
  refine ⟨h3, fun hs => CCS_of (Qs.2 hs).2 (fun w => by omega) hi ?_⟩
  rw [csKt_n2 (p := fun d => pl d = 0) hn (fun d d0 d1 => Iff.rfl)]
  exact h0 hs
/-- a row of what is open, and of what is said -/
theorem swS_op (hS : ∀ a, 0 ≤ a → a < 20 → mS (fi a) (fun b => a < n ∧ csH n b ∧ s (21 * a + b) = 2)) (hZ : csZ n s) (hn : 0 ≤ n ∧ n ≤ 20) (ha : 0 ≤ a ∧ a < n) : ∀ b, 0 ≤ b → b < 32 → ((a < n ∧ csH n b ∧ s (21 * a + b) = 2) ↔ b < 21 ∧ (fun x => s x = 2) (21 * a + b)) := fun b b0 b1 =>
  ⟨fun w => ⟨by have := csH_b hn.2 w.2.1; omega, w.2.2⟩, fun w => by
    have h := csZ_h hZ ha.1 hn.2 b0 w.1 (by have := w.2; dsimp only at this; omega)
    exact ⟨h.1, h.2, w.2⟩⟩
theorem CCS_openPairs {post : Int → Prop} (S : swF kd an mX29_axioms mX29_reasoner mX29_things mX29_above mX29_not mX29_open mX29_under mX30_fired mX30_this_0 A) (hS : swS n s (ai (A 4)) (ai (A 5)) (ai (A 6)) (ai (A 7))) (hZ : csZ n s) (hn : 0 ≤ n ∧ n ≤ 20) (en : mX29_classes (A 0) = n) (hp : post (csOp s)) : wpCS_X29_openPairs post kd an ai mX29_classes mX29_open (A 0) := by
  have l6 : (an (A 6) : Int) = 21 := by rw [S.2.2.2.1.2.2.2.1]; rfl
  unfold wpCS_X29_openPairs
  refine wl2 (fun u v a => wCS_X29_openPairs_4 _ (A 0) kd an ai mX29_classes mX29_open u v a) (fun v a => (0 ≤ a ∧ a ≤ n) ∧ v = cntI (fun x => s x = 2) (21 * a).toNat) (fun _ a => (n - a).toNat) ?_ 0 0 ⟨by omega, rfl⟩
  rintro v a ⟨ha, hv⟩ u ih
  have vb := cntI_b (fun x => s x = 2) (21 * a).toNat
  rw [wCS_X29_openPairs_4, en]
  refine ⟨fun z => ?_, fun z => kOn_of S.1.2.2.2.2.2.1 ⟨S.2.2.1 6 (by decide) (by decide), by omega, CCS_pop (hS.2.2.1 a ha.1 (by omega)) ?_⟩⟩
  · have ea : a = n := by omega
    unfold csOp at hp
    rw [cnt_all hZ hn (fun x w => by omega)] at hp
    rw [hv, ea]; exact hp
  · have R := cnt_row (p := fun x => s x = 2) ha.1 (swS_op (fi := ai (A 6)) hS.2.2.1 hZ hn ⟨ha.1, by omega⟩)
    have cb := cntI_b (fun b => a < n ∧ csH n b ∧ s (21 * a + b) = 2) 32
    refine ⟨by omega, fun _ e1 => ⟨by omega, fun _ e2 => ?_⟩⟩
    subst e1 e2
    exact ih _ _ ⟨by omega, by rw [R, hv]⟩ (by omega)
theorem CCS_said {post : Int → Prop} (S : swF kd an mX29_axioms mX29_reasoner mX29_things mX29_above mX29_not mX29_open mX29_under mX30_fired mX30_this_0 A) (hS : swS n s (ai (A 4)) (ai (A 5)) (ai (A 6)) (ai (A 7))) (hZ : csZ n s) (hV : csVa n s) (hn : 0 ≤ n ∧ n ≤ 20) (en : mX29_classes (A 0) = n) (hp : post (cntI (fun x => ¬ s x = 3) 420)) : wpCS_X29_said post kd an ai mX29_classes mX29_above mX29_not mX29_open (A 0) := by
  have l4 : (an (A 4) : Int) = 21 := by rw [S.2.2.2.1.2.1]; rfl
  have l5 : (an (A 5) : Int) = 21 := by rw [S.2.2.2.1.2.2.1]; rfl
  have l6 : (an (A 6) : Int) = 21 := by rw [S.2.2.2.1.2.2.2.1]; rfl
  unfold wpCS_X29_said
  refine wl2 (fun u v a => wCS_X29_said_4 _ (A 0) kd an ai mX29_classes mX29_above mX29_not mX29_open u v a) (fun v a => (0 ≤ a ∧ a ≤ n) ∧ v = cntI (fun x => ¬ s x = 3) (21 * a).toNat) (fun _ a => (n - a).toNat) ?_ 0 0 ⟨by omega, rfl⟩
  rintro v a ⟨ha, hv⟩ u ih
  have vb := cntI_b (fun x => ¬ s x = 3) (21 * a).toNat
  rw [wCS_X29_said_4, en]
  refine ⟨fun z => ?_, fun z => kOn_of S.1.2.2.2.1 ⟨S.2.2.1 4 (by decide) (by decide), by omega, kOn_of S.1.2.2.2.2.1 ⟨S.2.2.1 5 (by decide) (by decide), by omega, kOn_of S.1.2.2.2.2.2.1 ⟨S.2.2.1 6 (by decide) (by decide), by omega, CCS_pop (mS_or (mS_or (hS.1 a ha.1 (by omega)) (hS.2.1 a ha.1 (by omega))) (hS.2.2.1 a ha.1 (by omega))) ?_⟩⟩⟩⟩
  · have ea : a = n := by omega
    rw [cnt_all hZ hn (fun x w => w)] at hp
    rw [hv, ea]; exact hp
  · have R := cnt_row (p := fun x => ¬ s x = 3) (Q := fun b => ((csH n a ∧ csH n b ∧ csB s a b) ∨ (a < n ∧ csH n b ∧ s (21 * a + b) = 0)) ∨ (a < n ∧ csH n b ∧ s (21 * a + b) = 2)) ha.1 (fun b b0 b1 => ⟨fun w => by
      have hb : csH n b := w.elim (fun w => w.elim (fun w => w.2.1) (fun w => w.2.1)) (fun w => w.2.1)
      have bb := csH_b hn.2 hb
      refine ⟨by omega, fun q => ?_⟩
      rcases w with (w | w) | w
      · rcases w.2.2 with r | r <;> omega
      · omega
      · omega, fun w => by
      have h := csZ_h hZ ha.1 hn.2 b0 w.1 w.2
      have va := hV a b ha.1 h.1 h.2
      rcases va with r | r | r | r
      · exact Or.inl (Or.inr ⟨h.1, h.2, r⟩)
      · exact Or.inl (Or.inl ⟨csH_l ha.1 h.1, h.2, Or.inr r⟩)
      · exact Or.inr ⟨h.1, h.2, r⟩
      · exact absurd r w.2⟩)
    have cb := cntI_b (fun b => ((csH n a ∧ csH n b ∧ csB s a b) ∨ (a < n ∧ csH n b ∧ s (21 * a + b) = 0)) ∨ (a < n ∧ csH n b ∧ s (21 * a + b) = 2)) 32
    refine ⟨by omega, fun _ e1 => ⟨by omega, fun _ e2 => ?_⟩⟩
    subst e1 e2
    exact ih _ _ ⟨by omega, by rw [R, hv]⟩ (by omega)
theorem CCS_open {post : Int → Prop} (S : swF kd an mX29_axioms mX29_reasoner mX29_things mX29_above mX29_not mX29_open mX29_under mX30_fired mX30_this_0 A) (hS : swS n s (ai (A 4)) (ai (A 5)) (ai (A 6)) (ai (A 7))) (hZ : csZ n s) (hn : 0 ≤ n ∧ n ≤ 20) (en : mX29_classes (A 0) = n) (hi : zR i) (hp : post (csOa s i)) : wpCS_X29_open post kd an ai mX29_classes mX29_open (A 0) i := by
  have l6 : (an (A 6) : Int) = 21 := by rw [S.2.2.2.1.2.2.2.1]; rfl
  unfold wpCS_X29_open
  by_cases i0 : i < 0
  · have e6 : csKt (fun x => s x = 2) 420 i = -6 := csKt_neg i0
    unfold csOa at hp
    rw [pif_t e6] at hp
    refine ⟨1, ?_⟩
    rw [wCS_X29_open_4, en]
    exact ⟨fun _ => hp, fun _ => ⟨fun _ => hp, fun q => absurd i0 q⟩⟩
  refine wl2 (fun u v a => wCS_X29_open_4 _ _ (A 0) i kd an ai mX29_classes mX29_open u v a) (fun v a => (0 ≤ a ∧ a ≤ n) ∧ 0 ≤ v ∧ v = i - cntI (fun x => s x = 2) (21 * a).toNat) (fun _ a => (n - a).toNat) ?_ i 0 ⟨by omega, by omega, by show i = i - 0; omega⟩
  rintro v a ⟨ha, v0, hv⟩ u ih
  have vb := cntI_b (fun x => s x = 2) (21 * a).toNat
  rw [wCS_X29_open_4, en]
  refine ⟨fun z => ?_, fun z => ⟨fun q => absurd q i0, fun _ => kOn_of S.1.2.2.2.2.2.1 ⟨S.2.2.1 6 (by decide) (by decide), by omega, CCS_pop (hS.2.2.1 a ha.1 (by omega)) ?_⟩⟩⟩
  · have ea : a = n := by omega
    rw [ea] at hv
    have ca := cnt_all (p := fun x => s x = 2) hZ hn (fun x w => by omega)
    have e6 : csKt (fun x => s x = 2) 420 i = -6 := csKt_n (fun j j0 j1 w => by
      have u1 := w.2
      have u2 := cntI_t (p := fun x => s x = 2) j0 w.1
      have u3 := cntI_mono (p := fun x => s x = 2) (a := (j + 1).toNat) (b := 420) (by omega)
      omega)
    unfold csOa at hp
    rw [pif_t e6] at hp
    exact hp
  · have hrow := swS_op (fi := ai (A 6)) hS.2.2.1 hZ hn (a := a) ⟨ha.1, by omega⟩
    have R := cnt_row (p := fun x => s x = 2) ha.1 hrow
    have cb := cntI_b (fun b => a < n ∧ csH n b ∧ s (21 * a + b) = 2) 32
    refine ⟨fun le => ⟨by omega, fun _ e1 => ⟨by omega, fun _ e2 => ?_⟩⟩, fun lt => kOn_of S.1.2.2.2.2.2.1 ⟨S.2.2.1 6 (by decide) (by decide), by omega, CCS_of (hS.2.2.1 a ha.1 (by omega)) (fun w => by have := csH_b hn.2 w.2.1; omega) ⟨by omega, by omega⟩ ?_⟩⟩
    · subst e1 e2
      exact ih _ _ ⟨by omega, by omega, by rw [R, hv]; omega⟩ (by omega)
    · obtain ⟨b, hb, kb⟩ := cnt_ex (p := fun b => a < n ∧ csH n b ∧ s (21 * a + b) = 2) (N := 32) v0 (by omega)
      have eb : csKt (fun b => a < n ∧ csH n b ∧ s (21 * a + b) = 2) 32 v = b := csKt_y hb kb (fun j j0 j1 w => by
        have u1 := kb.2
        have u2 := w.2
        have u3 := cntI_t (p := fun b => a < n ∧ csH n b ∧ s (21 * a + b) = 2) j0 w.1
        have u4 := cntI_mono (p := fun b => a < n ∧ csH n b ∧ s (21 * a + b) = 2) (a := (j + 1).toNat) (b := b.toNat) (by omega)
        omega)
      have b20 := csH_b hn.2 kb.1.2.1
      -- its place in the square
      have cx : cntI (fun x => s x = 2) (21 * a + b).toNat = i := by
        have e1 := cntI_add (p := fun x => s x = 2) (21 * a).toNat b.toNat
        have e2 : cntI (fun i => (fun x => s x = 2) (((21 * a).toNat : Nat) + i)) b.toNat = cntI (fun b => a < n ∧ csH n b ∧ s (21 * a + b) = 2) b.toNat := cntI_c (fun c c0 c1 => by
          rw [show (((21 * a).toNat : Nat) : Int) = 21 * a by omega]
          exact ⟨fun w => (hrow c c0 (by omega)).mpr ⟨by omega, w⟩, fun w => ((hrow c c0 (by omega)).mp w).2⟩)
        rw [show (21 * a + b).toNat = (21 * a).toNat + b.toNat by omega, e1, e2, kb.2]
        omega
      have ex : csKt (fun x => s x = 2) 420 i = 21 * a + b := csKt_y ⟨by omega, by omega⟩ ⟨kb.1.2.2, cx⟩ (fun j j0 j1 w => by
        have u2 := w.2
        have u3 := cntI_t (p := fun x => s x = 2) j0 w.1
        have u4 := cntI_mono (p := fun x => s x = 2) (a := (j + 1).toNat) (b := (21 * a + b).toNat) (by omega)
        omega)
      unfold csOa at hp
      rw [ex, pif_f (by omega), show (21 * a + b) / 21 = a by omega, show (21 * a + b) % 21 = b by omega] at hp
      rw [eb]
      refine ⟨fun q => ⟨by omega, ?_⟩, fun q => ⟨by omega, ?_⟩⟩
      · rw [if_pos q] at hp; exact hp
      · rw [if_neg q] at hp; exact hp
theorem CCS_known {post : Int → Prop} (S : swF kd an mX29_axioms mX29_reasoner mX29_things mX29_above mX29_not mX29_open mX29_under mX30_fired mX30_this_0 A) (hn : 0 ≤ n ∧ n ≤ 20) (D : swD n f t s me mX29_classes mX29_fuel mX29_thingCount ai A L O R Th m) (h1 : ¬ ((0 ≤ a ∧ a < n) ∧ csGk n b) → post (-1)) (h0 : (0 ≤ a ∧ a < n) ∧ csGk n b → post (s (21 * a + csGl b))) : wpCS_X29_known post kd an ai mX29_classes mX29_above mX29_not mX29_open (A 0) a b := by
  unfold wpCS_X29_known
  exact CCS_isClassB D.1.1 (fun w => CCS_isGoalB D.1.1 (fun g => CCS_goal g (CCS_state S D.2.2.2.1 hn D.2.2.2.2.2.2.2.1 w (csGk_h g) (h0 ⟨w, g⟩))) (fun g => h1 (fun q => g q.2))) (fun w => h1 (fun q => w q.1))
theorem swD_8 (S : swF kd an mX29_axioms mX29_reasoner mX29_things mX29_above mX29_not mX29_open mX29_under mX30_fired mX30_this_0 A) {ai' : Nat → Int → Int} (E : swE ai ai' (fun a => a = A 8)) (D : swD n f t s me mX29_classes mX29_fuel mX29_thingCount ai A L O R Th m) : swD n f t s me mX29_classes mX29_fuel mX29_thingCount ai' A L O R Th m := by
  obtain ⟨d1, d2, d3, d4, d5, d6⟩ := D
  exact ⟨d1, d2, d3, swS_8 S E d4, fun j j0 j1 => by rw [E _ (S.ne (i := 3) (j := 8) (by decide))]; exact d5 j j0 j1, d6⟩
theorem csOne_m (ha : 0 ≤ a ∧ a ≤ 20) : mS (2 ^ a.toNat) (fun c => c ≤ 20 ∧ ¬ csOne a c = 0) := mS_c (mS_one ⟨ha.1, by omega⟩) (fun c _ _ => by
  unfold csOne
  by_cases w : c = a
  · rw [if_pos w]; exact ⟨fun _ => ⟨by omega, by decide⟩, fun _ => w⟩
  · rw [if_neg w]; exact ⟨fun v => absurd v w, fun v => absurd rfl v.2⟩)
theorem CCS_ask {post : Int → (Nat → Int → Int) → (Nat → Int) → (Nat → Int) → Prop} (S : swF kd an mX29_axioms mX29_reasoner mX29_things mX29_above mX29_not mX29_open mX29_under mX30_fired mX30_this_0 A) (T : swA kd an ar mX61_left mX61_right mX61_gone mJ2_elementData mJ2_size (sa 0) (A 1) L O R Th n m e fx) (D : swD n f t s me mX29_classes mX29_fuel mX29_thingCount ai A L O R Th m) (h1 : ¬ ((0 ≤ a ∧ a < n) ∧ csGk n b) → post (-1) ai mX30_many mX30_facts) (h0 : (0 ≤ a ∧ a < n) ∧ csGk n b → ∀ ai' ma fc, swD n f t s me mX29_classes mX29_fuel mX29_thingCount ai' A L O R Th m → post (csAn L O R Th m f (csGl b) (csOne a)).1 ai' ma fc) : wpCS_X29_ask post kd an ai ar mX29_axioms mX29_reasoner mX29_classes mX29_fuel mX30_fired mX30_many mX30_facts mX30_this_0 mX61_left mX61_right mX61_gone mJ2_elementData mJ2_size (A 0) a b := by
  have hn := T.2.2.2.2.2
  unfold wpCS_X29_ask
  exact CCS_isClassB D.1.1 (fun w => CCS_isGoalB D.1.1 (fun g => ⟨⟨w.1, by omega⟩, CCS_goal g (kOn_of S.1.2.1 ⟨S.2.1.2.2, CCS_answer S T D.1.2.1 D.2.1 (csGl_b hn g) (csOne_m ⟨w.1, by omega⟩) (fun r l' ai' ma fc er _ E _ _ _ => by rw [← er]; exact h0 ⟨w, g⟩ ai' ma fc (swD_8 S E D))⟩)⟩) (fun g => h1 (fun q => g q.2))) (fun w => h1 (fun q => w q.1))
theorem CCS_put {post : Int → (Nat → Int → Int) → Prop} (S : swF kd an mX29_axioms mX29_reasoner mX29_things mX29_above mX29_not mX29_open mX29_under mX30_fired mX30_this_0 A) (hn : 0 ≤ n ∧ n ≤ 20) (D : swD n f t s me mX29_classes mX29_fuel mX29_thingCount ai A L O R Th m) (h1 : ¬ ((0 ≤ k ∧ k < t) ∧ 0 ≤ c ∧ c < n) → post (-1) ai) (h0 : (0 ≤ k ∧ k < t) ∧ 0 ≤ c ∧ c < n → ∀ ai', swD n f t s (updI me (20 * k + c) 1) mX29_classes mX29_fuel mX29_thingCount ai' A L O R Th m → post (if me (20 * k + c) = 0 then 1 else 0) ai') : wpCS_X29_put post kd an ai mX29_classes mX29_things mX29_thingCount (A 0) k c := by
  obtain ⟨⟨en, ef, et⟩, hf, ht, hS, hM, d6⟩ := id D
  have l3 : (an (A 3) : Int) = 8 := by rw [S.2.2.2.1.1]; rfl
  unfold wpCS_X29_put
  refine CCS_isThingB et (fun w => CCS_isClassB en (fun w2 => kOn_of S.1.2.2.1 ⟨S.2.2.1 3 (by decide) (by decide), by omega, CCS_hasB (hM k w.1 (by omega)) w2.1 (by omega) (fun h => ?_) (fun h => ⟨⟨w2.1, by omega⟩, fun v ev ai2 ea => ?_⟩)⟩) (fun w2 => h1 (fun q => w2 q.2))) (fun w => h1 (fun q => w q.1))
  · have H := h0 ⟨w, w2⟩ ai ⟨⟨en, ef, et⟩, hf, ht, hS, fun j j0 j1 => mS_c (hM j j0 j1) (fun c' c0 _ => by
      by_cases q : 20 * j + c' = 20 * k + c
      · rw [q, updI_s]; exact ⟨fun u => ⟨u.1, by decide⟩, fun u => ⟨u.1, h.2⟩⟩
      · rw [updI_n q]), d6⟩
    rw [if_neg h.2] at H; exact H
  · have z0 : me (20 * k + c) = 0 := Classical.byContradiction (fun q => h ⟨by omega, q⟩)
    have dj : ∀ i : Nat, 4 ≤ i ∧ i ≤ 8 → A i ≠ A 3 := fun i hi => S.ne (i := i) (j := 3) ⟨⟨by omega, hi.2⟩, by decide, by omega⟩
    have H := h0 ⟨w, w2⟩ ai2 ⟨⟨en, ef, et⟩, hf, ht, by rw [ea, va_up_ne _ _ (dj 4 (by decide)), va_up_ne _ _ (dj 5 (by decide)), va_up_ne _ _ (dj 6 (by decide)), va_up_ne _ _ (dj 7 (by decide))]; exact hS, fun j j0 j1 => by
      rw [ea, va_up_self, ev]
      by_cases jk : j = k
      · rw [jk, updI_s]
        refine mS_c (mS_or (hM k w.1 (by omega)) (mS_one ⟨w2.1, by omega⟩)) (fun c' c0 _ => ?_)
        by_cases q : c' = c
        · rw [q, updI_s]; exact ⟨fun _ => ⟨by omega, by decide⟩, fun _ => Or.inr rfl⟩
        · rw [updI_n (by omega)]; exact ⟨fun u => u.elim id (fun u => absurd u q), Or.inl⟩
      · rw [updI_n jk]
        refine mS_c (hM j j0 j1) (fun c' c0 _ => ?_)
        by_cases c20 : c' < 20
        · rw [updI_n (by omega)]
        · exact ⟨fun u => absurd u.1 c20, fun u => absurd u.1 c20⟩, d6⟩
    rw [if_pos z0] at H; exact H
end

/-! ClassifySort, the component (room CS): types, traces, counts -/
section
variable {kd : Nat → Nat} {an : Nat → Nat} {ai : Nat → Int → Int} {al : Nat → Int → Int} {ar : Nat → Int → Option Nat} {mX29_axioms : Nat → Option Nat} {mX29_reasoner : Nat → Option Nat} {mX29_classes : Nat → Int} {mX29_things : Nat → Option Nat} {mX29_thingCount : Nat → Int} {mX29_fuel : Nat → Int} {mX29_above : Nat → Option Nat} {mX29_not : Nat → Option Nat} {mX29_open : Nat → Option Nat} {mX29_under : Nat → Option Nat} {mX29_sorted : Nat → Int} {mX29_placed : Nat → Int} {mX29_empties : Nat → Int} {mX29_asked : Nat → Int} {mX30_fired : Nat → Option Nat} {mX30_many : Nat → Int} {mX30_facts : Nat → Int} {mX30_this_0 : Nat → Option Nat} {mX61_left : Nat → Int} {mX61_right : Nat → Int} {mX61_gone : Nat → Int} {mJ1_modCount : Nat → Int} {mJ2_elementData : Nat → Option Nat} {mJ2_size : Nat → Int} {sa : Nat → Nat} {A : Nat → Nat} {L O R Th s fa pl lk me fi : Int → Int} {n m f g t x y i k c d a b q v w z : Int} {e : Nat} {fx : Int → Nat} {P Q : Int → Prop}
theorem csIf_m {th : Int} (hM : mS th (fun c => c < 20 ∧ ¬ me (20 * x + c) = 0)) : mS th (fun c => c ≤ 20 ∧ ¬ csIf me x c = 0) := mS_c hM (fun c _ _ => by
  unfold csIf
  by_cases w : c < 20 ∧ ¬ me (20 * x + c) = 0
  · rw [if_pos w]; exact ⟨fun _ => ⟨by omega, by decide⟩, fun _ => w⟩
  · rw [if_neg w]; exact ⟨fun v => absurd v w, fun v => absurd rfl v.2⟩)
theorem CCS_t50 {K : Int → (Nat → Int → Int) → (Nat → Int) → (Nat → Int) → Prop} {th : Int} (S : swF kd an mX29_axioms mX29_reasoner mX29_things mX29_above mX29_not mX29_open mX29_under mX30_fired mX30_this_0 A) (T : swA kd an ar mX61_left mX61_right mX61_gone mJ2_elementData mJ2_size (sa 0) (A 1) L O R Th n m e fx) (hP : swPl n pl (mX29_placed (A 0))) (hth : mS th (fun c => c < 20 ∧ ¬ me (20 * x + c) = 0)) (hp : ∀ v ai' ma fc, mS v (fun c => (0 ≤ c ∧ c < n) ∧ ¬ pl c = 0 ∧ csI L O R Th m f me x c) → swD n f t s me mX29_classes mX29_fuel mX29_thingCount ai' A L O R Th m → K v ai' ma fc) :
    ∀ (u : Nat) (v c : Int) (ai : Nat → Int → Int) (mX30_many mX30_facts : Nat → Int), (n - c).toNat < u → (0 ≤ c ∧ c ≤ n) → mS v (fun d => (0 ≤ d ∧ d < c) ∧ ¬ pl d = 0 ∧ csI L O R Th m f me x d) → swD n f t s me mX29_classes mX29_fuel mX29_thingCount ai A L O R Th m → wCS_X29_type_50 K (A 0) th kd an ar mX29_axioms mX29_reasoner mX29_classes mX29_fuel mX29_placed mX30_fired mX30_this_0 mX61_left mX61_right mX61_gone mJ2_elementData mJ2_size u v c ai mX30_many mX30_facts
  | 0, v, c, ai, ma, fc, hu, _, _, _ => by omega
  | u + 1, v, c, ai, ma, fc, hu, hc, hv, D => by
    have hn := T.2.2.2.2.2
    have en := D.1.1
    rw [wCS_X29_type_50, en]
    have skip : c < n → ¬ (¬ pl c = 0 ∧ csI L O R Th m f me x c) → mS v (fun d => (0 ≤ d ∧ d < c + 1) ∧ ¬ pl d = 0 ∧ csI L O R Th m f me x d) := fun _ w => mS_c hv (fun d _ _ => ⟨fun h => ⟨by omega, h.2⟩, fun h => ⟨by
      have : d ≠ c := fun q => w (by rw [← q]; exact h.2)
      omega, h.2⟩⟩)
    refine ⟨fun z => hp v ai ma fc (mS_c hv (fun d _ _ => ⟨fun w => ⟨by omega, w.2⟩, fun w => ⟨by omega, w.2⟩⟩)) D, fun z => CCS_hasB hP hc.1 (by omega) (fun w => ⟨fun t0 => ⟨by omega, fun _ e1 => ?_⟩, fun t0 => kOn_of S.1.2.1 ⟨S.2.1.2.2, CCS_answer S T D.1.2.1 D.2.1 ⟨hc.1, by omega⟩ (csIf_m hth) (fun r l' ai' ma' fc' er _ E _ _ _ => ⟨fun r1 => ⟨⟨hc.1, by omega⟩, fun _ e2 => ⟨by omega, fun _ e1 => ?_⟩⟩, fun r1 => ⟨by omega, fun _ e1 => ?_⟩⟩)⟩⟩) (fun w => ⟨by omega, fun _ e1 => ?_⟩)⟩
    · subst e1
      refine CCS_t50 S T hP hth hp u v _ ai ma fc (by omega) (by omega) (skip (by omega) (fun q => ?_)) D
      have no := (mS_z hth).mp t0
      have h0 := csAn_0 (L := L) (O := O) (R := R) (Th := Th) (f := f) (g := c) (fa := csIf me x) T.2.2.2.2.1.1 T.2.2.2.1 hn.2 ⟨hc.1, by omega⟩ (fun d d0 d1 => by
        unfold csIf
        exact if_neg (no d d0 (by omega)))
      have h1 := q.2
      unfold csI at h1
      omega
    · subst e1 e2
      refine CCS_t50 S T hP hth hp u _ _ ai' ma' fc' (by omega) (by omega) (mS_c (mS_or hv (mS_one ⟨hc.1, by omega⟩)) (fun d _ _ => ⟨fun h => h.elim (fun h => ⟨by omega, h.2⟩) (fun h => by rw [h]; exact ⟨by omega, w.2, er.trans r1⟩), fun h => ?_⟩)) (swD_8 S E D)
      by_cases q : d = c
      · exact Or.inr q
      · exact Or.inl ⟨by omega, h.2⟩
    · subst e1
      exact CCS_t50 S T hP hth hp u v _ ai' ma' fc' (by omega) (by omega) (skip (by omega) (fun q => r1 (er.symm.trans q.2))) (swD_8 S E D)
    · subst e1
      exact CCS_t50 S T hP hth hp u v _ ai ma fc (by omega) (by omega) (skip (by omega) (fun q => w ⟨⟨hc.1, by omega⟩, q.1⟩)) D
theorem CCS_type {post : Int → (Nat → Int → Int) → (Nat → Int) → (Nat → Int) → Prop} {so : Int} (S : swF kd an mX29_axioms mX29_reasoner mX29_things mX29_above mX29_not mX29_open mX29_under mX30_fired mX30_this_0 A) (T : swA kd an ar mX61_left mX61_right mX61_gone mJ2_elementData mJ2_size (sa 0) (A 1) L O R Th n m e fx) (D : swD n f t s me mX29_classes mX29_fuel mX29_thingCount ai A L O R Th m) (Qs : swQ n so pl mX29_sorted mX29_placed mX29_empties A) (hi : zR i) (h1 : ¬ (0 ≤ x ∧ x < t) → post (-1) ai mX30_many mX30_facts) (h3 : 0 ≤ x ∧ x < t → so = 0 → post (-3) ai mX30_many mX30_facts) (h5 : 0 ≤ x ∧ x < t → ¬ so = 0 → csI L O R Th m f me x 20 → ∀ ai' ma fc, swD n f t s me mX29_classes mX29_fuel mX29_thingCount ai' A L O R Th m → post (-5) ai' ma fc) (h0 : 0 ≤ x ∧ x < t → ¬ so = 0 → ¬ csI L O R Th m f me x 20 → ∀ ai' ma fc, swD n f t s me mX29_classes mX29_fuel mX29_thingCount ai' A L O R Th m → post (csKt (csTy n s pl L O R Th m f me x) n.toNat i) ai' ma fc) : wpCS_X29_type post kd an ai ar mX29_axioms mX29_reasoner mX29_classes mX29_things mX29_thingCount mX29_fuel mX29_above mX29_under mX29_sorted mX29_placed mX30_fired mX30_many mX30_facts mX30_this_0 mX61_left mX61_right mX61_gone mJ2_elementData mJ2_size (A 0) x i := by
  have hn := T.2.2.2.2.2
  obtain ⟨⟨en, ef, et⟩, hf, ht, hS, hM, d6⟩ := id D
  have l3 : (an (A 3) : Int) = 8 := by rw [S.2.2.2.1.1]; rfl
  unfold wpCS_X29_type
  rw [Qs.1]
  refine CCS_isThingB et (fun hx => ⟨h3 hx, fun hs => kOn_of S.1.2.2.1 ⟨S.2.2.1 3 (by decide) (by decide), by omega, fun th eth => kOn_of S.1.2.1 ⟨S.2.1.2.2, ?_⟩⟩⟩) h1
  have hth : mS th (fun c => c < 20 ∧ ¬ me (20 * x + c) = 0) := by rw [eth]; exact hM x hx.1 (by omega)
  obtain ⟨hP, hE⟩ := Qs.2 hs
  refine CCS_answer S T ef hf (by decide) (csIf_m hth) (fun r l' ai1 ma fc er _ E _ _ _ => ⟨fun r1 => h5 hx hs (er.trans r1) ai1 ma fc (swD_8 S E D), fun r1 => ⟨n.toNat + 1, CCS_t50 S T hP hth (fun v ai2 ma2 fc2 hv D2 => ?_) (n.toNat + 1) 0 0 ai1 ma fc (by omega) (by omega) (mS_c mS_0 (fun c _ _ => ⟨fun w => w.elim, fun w => by omega⟩)) (swD_8 S E D)⟩⟩)
  have H := h0 hx hs (fun q => r1 (er.symm.trans q)) ai2 ma2 fc2 D2
  have hS2 := D2.2.2.2.1
  refine wl2 (fun u v2 c => wCS_X29_type_110 _ (A 0) v kd an ai2 mX29_classes mX29_above mX29_under mX29_placed u v2 c) (fun v2 c => (0 ≤ c ∧ c ≤ n) ∧ mS v2 (fun d => (0 ≤ d ∧ d < c) ∧ (¬ pl d = 0 ∧ csI L O R Th m f me x d) ∧ ∀ k, 0 ≤ k → k < n → ¬ (¬ pl k = 0 ∧ csDi n s pl k d ∧ csI L O R Th m f me x k))) (fun _ c => (n - c).toNat) ?_ 0 0 ⟨by omega, mS_c mS_0 (fun c _ _ => ⟨fun w => w.elim, fun w => by omega⟩)⟩
  rintro v2 c ⟨hc, hv2⟩ u ih
  rw [wCS_X29_type_110, en]
  have skip : c < n → ¬ ((¬ pl c = 0 ∧ csI L O R Th m f me x c) ∧ ∀ k, 0 ≤ k → k < n → ¬ (¬ pl k = 0 ∧ csDi n s pl k c ∧ csI L O R Th m f me x k)) → mS v2 (fun d => (0 ≤ d ∧ d < c + 1) ∧ (¬ pl d = 0 ∧ csI L O R Th m f me x d) ∧ ∀ k, 0 ≤ k → k < n → ¬ (¬ pl k = 0 ∧ csDi n s pl k d ∧ csI L O R Th m f me x k)) := fun _ w => mS_c hv2 (fun d _ _ => ⟨fun h => ⟨by omega, h.2⟩, fun h => ⟨by
    have : d ≠ c := fun q => w (by rw [← q]; exact h.2)
    omega, h.2⟩⟩)
  refine ⟨fun z => CCS_firsts S hS2 hn en hP hv2 (fun v3 hv3 => CCS_of hv3 (fun w => by omega) hi ?_), fun z => CCS_hasB hv hc.1 (by omega) (fun w => CCS_dBelow S hS2 hn en hP ⟨hc.1, by omega⟩ w.2.1 (fun r hr => ?_)) (fun w => ⟨by omega, fun _ e1 => ?_⟩)⟩
  · rw [csKt_n2 (p := csTy n s pl L O R Th m f me x) hn (fun d d0 d1 => ⟨fun u => ⟨u.1, ⟨u.2.1.2.1.1, u.2.2, u.2.1.2.1.2⟩, u.2.1.2.2⟩, fun u => ⟨u.1, ⟨⟨u.1.1, by omega⟩, ⟨u.2.1.1, u.2.1.2.2⟩, u.2.2⟩, u.2.1.2.1⟩⟩)]
    exact H
  · have hz : zand r v = 0 ↔ ∀ k, 0 ≤ k → k < n → ¬ (¬ pl k = 0 ∧ csDi n s pl k c ∧ csI L O R Th m f me x k) := by
      rw [mS_dj hr hv]
      exact ⟨fun h k k0 k1 q => h k k0 (by omega) ⟨⟨⟨k0, k1⟩, q.1, q.2.1⟩, ⟨k0, k1⟩, q.1, q.2.2⟩, fun h k _ _ q => h k q.1.1.1 q.1.1.2 ⟨q.1.2.1, q.1.2.2, q.2.2.2⟩⟩
    rw [hz]
    refine ⟨fun nb => ⟨⟨hc.1, by omega⟩, fun _ e1 => ⟨by omega, fun _ e2 => ?_⟩⟩, fun nb => ⟨by omega, fun _ e2 => ?_⟩⟩
    · subst e1 e2
      refine ih _ _ ⟨by omega, mS_c (mS_or hv2 (mS_one ⟨hc.1, by omega⟩)) (fun d _ _ => ⟨fun h => h.elim (fun h => ⟨by omega, h.2⟩) (fun h => by rw [h]; exact ⟨by omega, w.2, nb⟩), fun h => ?_⟩)⟩ (by omega)
      by_cases q : d = c
      · exact Or.inr q
      · exact Or.inl ⟨by omega, h.2⟩
    · subst e2
      exact ih _ _ ⟨by omega, skip (by omega) (fun q => nb q.2)⟩ (by omega)
  · subst e1
    exact ih _ _ ⟨by omega, skip (by omega) (fun q => w ⟨⟨hc.1, by omega⟩, q.1⟩)⟩ (by omega)
theorem csWp_b : ∀ (t : Nat) (N : Int) (W Z : Int → Prop), (t : Int) ≤ N → (∀ j, Z j → 0 ≤ j ∧ j < N) → ∀ j, csWp L O R fi t W Z j → 0 ≤ j ∧ j < N
  | 0, N, W, Z, _, h, j, hj => h j hj
  | t + 1, N, W, Z, ht, h, j, hj => csWp_b t N _ _ (by omega) (fun j q => q.elim (h j) (fun q => by have := q.2; omega)) j hj
/-- needed ones, from t - 1 down -/
theorem CCS_n50 {K : Int → Prop} {l : List Int} (S : swF kd an mX29_axioms mX29_reasoner mX29_things mX29_above mX29_not mX29_open mX29_under mX30_fired mX30_this_0 A) (T : swA kd an ar mX61_left mX61_right mX61_gone mJ2_elementData mJ2_size (sa 0) (A 1) L O R Th n m e fx) (hq : vtQ (ai (A 8)) 0 l) (hb : ∀ k, k ∈ l → 0 ≤ k ∧ k < m) (hl : l.length ≤ 20) :
    ∀ (t : Nat) (W Z : Int → Prop) (w1 w2 : Int), t ≤ l.length → mS w1 Z → mS w2 W → (∀ v, mS v (csWp L O R (ai (A 8)) t W Z) → K v) → wCS_X30_needed_50 K (A 2) kd an ai ar mX29_axioms mX30_fired mX30_this_0 mX61_left mX61_right mJ2_elementData mJ2_size (t + 1) w1 w2 ((t : Int) - 1)
  | 0, W, Z, w1, w2, ht, h1, h2, hp => by
    rw [wCS_X30_needed_50]
    exact ⟨fun _ => hp w1 h1, fun z => by omega⟩
  | t + 1, W, Z, w1, w2, ht, h1, h2, hp => by
    have hn := T.2.2.2.2.2
    have l8 : (an (A 8) : Int) = 20 := by rw [S.2.2.2.1.2.2.2.2.2]; rfl
    have ef : ai (A 8) t = l.getD t 0 := by have := hq t (by omega); rw [Int.zero_add] at this; exact this
    have kt : 0 ≤ ai (A 8) t ∧ ai (A 8) t < m := by rw [ef]; exact hb _ (getD_m (by omega))
    obtain ⟨a1, a2, a3, a4, a5⟩ := T.2.1 _ kt.1 kt.2
    have y3 := csH_b hn.2 (T.2.2.2.1 _ kt.1 kt.2).2.2
    rw [wCS_X30_needed_50]
    rw [show ((t + 1 : Nat) : Int) - 1 = t by omega]
    refine ⟨fun z => by omega, fun _ => kOn_of S.1.2.2.2.2.2.2.2.2 ⟨S.2.1.1, kOn_of S.1.2.2.2.2.2.2.2.1 ⟨S.2.2.1 8 (by decide) (by decide), by omega, kOn_of S.1.1 ⟨S.2.1.2.1, CCS_lget T.1 kt.1 kt.2 (kOn_some ⟨a1, ?_⟩)⟩⟩⟩⟩
    rw [a2]
    refine CCS_hasB h2 y3.1 (by omega) (fun w => ⟨by omega, fun _ e1 _ e2 => ⟨by omega, fun _ e3 => ?_⟩⟩) (fun w => ⟨by omega, fun _ e3 => ?_⟩)
    · subst e1 e2 e3
      rw [show (t : Int) + (-1) = t - 1 by omega]
      refine CCS_n50 S T hq hb hl t (fun c => W c ∨ (W (R (ai (A 8) t)) ∧ (c = L (ai (A 8) t) ∨ (0 ≤ O (ai (A 8) t) ∧ c = O (ai (A 8) t))))) (fun j => Z j ∨ (W (R (ai (A 8) t)) ∧ j = t)) _ _ (by omega) (mS_c (mS_or h1 (mS_one ⟨by omega, by omega⟩)) (fun j _ _ => ⟨fun u => u.imp id (fun u => ⟨w, u⟩), fun u => u.imp id (fun u => u.2)⟩)) (mS_c (mS_or h2 a4) (fun j _ _ => ⟨fun u => u.imp id (fun u => ⟨w, u⟩), fun u => u.imp id (fun u => u.2)⟩)) hp
    · subst e3
      rw [show (t : Int) + (-1) = t - 1 by omega]
      refine CCS_n50 S T hq hb hl t (fun c => W c ∨ (W (R (ai (A 8) t)) ∧ (c = L (ai (A 8) t) ∨ (0 ≤ O (ai (A 8) t) ∧ c = O (ai (A 8) t))))) (fun j => Z j ∨ (W (R (ai (A 8) t)) ∧ j = t)) _ _ (by omega) (mS_c h1 (fun j _ _ => ⟨Or.inl, fun u => u.elim id (fun u => absurd u.1 w)⟩)) (mS_c h2 (fun j _ _ => ⟨Or.inl, fun u => u.elim id (fun u => absurd u.1 w)⟩)) hp
/-- as a trace is told: the i-th of those needed -/
noncomputable def csTr (L O R : Int → Int) (l : List Int) (i : Int) : Int := csKt (csWp L O R (fun j => l.getD j.toNat 0) l.length (fun c => c = R (l.getD (l.length - 1) 0)) (fun _ => False)) l.length i
theorem csWp_c {fj : Int → Int} : ∀ (t : Nat) (W Z : Int → Prop), (∀ j : Nat, j < t → fi j = fj j) → csWp L O R fi t W Z = csWp L O R fj t W Z
  | 0, W, Z, _ => rfl
  | t + 1, W, Z, h => by
    unfold csWp
    rw [h t (by omega)]
    exact csWp_c t _ _ (fun j hj => h j (by omega))
theorem CCS_trace {post : Int → (Nat → Int → Int) → (Nat → Int) → (Nat → Int) → Prop} (S : swF kd an mX29_axioms mX29_reasoner mX29_things mX29_above mX29_not mX29_open mX29_under mX30_fired mX30_this_0 A) (T : swA kd an ar mX61_left mX61_right mX61_gone mJ2_elementData mJ2_size (sa 0) (A 1) L O R Th n m e fx) (D : swD n f t s me mX29_classes mX29_fuel mX29_thingCount ai A L O R Th m) (hi : zR i) (h1 : ¬ ((0 ≤ a ∧ a < n) ∧ csGk n b) → post (-1) ai mX30_many mX30_facts)
    (h6 : (0 ≤ a ∧ a < n) ∧ csGk n b → ∀ ai' ma fc, swD n f t s me mX29_classes mX29_fuel mX29_thingCount ai' A L O R Th m → (¬ (csAn L O R Th m f (csGl b) (csOne a)).1 = 1 ∨ (csAn L O R Th m f (csGl b) (csOne a)).2.2 = []) → post (-6) ai' ma fc)
    (h0 : (0 ≤ a ∧ a < n) ∧ csGk n b → ∀ ai' ma fc, swD n f t s me mX29_classes mX29_fuel mX29_thingCount ai' A L O R Th m → (csAn L O R Th m f (csGl b) (csOne a)).1 = 1 → ∀ l', (csAn L O R Th m f (csGl b) (csOne a)).2.2 = l' → ¬ l' = [] → post (pif (csTr L O R l' i = -6) (-6) (l'.getD (csTr L O R l' i).toNat 0)) ai' ma fc) : wpCS_X29_trace post kd an ai ar mX29_axioms mX29_reasoner mX29_classes mX29_fuel mX30_fired mX30_many mX30_facts mX30_this_0 mX61_left mX61_right mX61_gone mJ2_elementData mJ2_size (A 0) a b i := by
  have hn := T.2.2.2.2.2
  have hf := D.2.1
  unfold wpCS_X29_trace
  refine CCS_isClassB D.1.1 (fun w => CCS_isGoalB D.1.1 (fun g => ⟨⟨w.1, by omega⟩, CCS_goal g (kOn_of S.1.2.1 ⟨S.2.1.2.2, CCS_answer S T D.1.2.1 D.2.1 (csGl_b hn g) (csOne_m ⟨w.1, by omega⟩) (fun r l' ai' ma fc er el E hq hm hb => ⟨fun r1 => ?_, fun r1 => h6 ⟨w, g⟩ ai' ma fc (swD_8 S E D) (Or.inl (fun q => r1 (er.symm.trans q)))⟩)⟩)⟩) (fun g => h1 (fun q => g q.2))) (fun w => h1 (fun q => w q.1))
  have l8 : (an (A 8) : Int) = 20 := by rw [S.2.2.2.1.2.2.2.2.2]; rfl
  have D' := swD_8 S E D
  have l20 : l'.length ≤ 20 := by
    have := csRun_lf (L := L) (O := O) (R := R) (Th := Th) (m := m) (f := f) (g := csGl b) 22 (csOne a) [] (by show (0 : Int) ≤ f; exact hf.1)
    have el2 : (csRun L O R Th m f (csGl b) 22 (csOne a) []).2.2 = l' := el
    rw [el2] at this
    omega
  have fin : ∀ v, mS v (csWp L O R (ai' (A 8)) l'.length (fun c => c = R (l'.getD (l'.length - 1) 0)) (fun _ => False)) → (¬ l' = [] → wpCS_X29_of (fun (r_21 : Int) => (((0 ≤ r_21 → (kOn (mX30_fired (A 2)) (fun b_24 => kd b_24 = 5 ∧ ((0 ≤ r_21 ∧ r_21 < (an b_24 : Int)) ∧ ((post (ai' b_24 r_21) ai' ma fc)))))) ∧ (¬ 0 ≤ r_21 → ((post (-6) ai' ma fc)))))) v i) := fun v hv ne => by
    have bd := csWp_b (L := L) (O := O) (R := R) (fi := ai' (A 8)) l'.length (l'.length : Int) (fun c => c = R (l'.getD (l'.length - 1) 0)) (fun _ => False) (Int.le_refl _) (fun j q => q.elim)
    have H := h0 ⟨w, g⟩ ai' ma fc D' (er.trans r1) l' el ne
    have ck : csKt (csWp L O R (ai' (A 8)) l'.length (fun c => c = R (l'.getD (l'.length - 1) 0)) (fun _ => False)) 32 i = csTr L O R l' i := by
      unfold csTr
      rw [← csWp_c (fi := ai' (A 8)) (fj := fun j => l'.getD j.toNat 0) l'.length _ _ (fun j hj => by have := hq j hj; rw [Int.zero_add] at this; exact this)]
      exact csKt_e (by omega) (fun k k0 k1 => ⟨fun u => ⟨(bd k u).2, u⟩, fun u => u.2⟩)
    refine CCS_of hv (fun u => by have := bd 31 u; omega) hi ?_
    rw [ck]
    have kb : csTr L O R l' i = -6 ∨ (0 ≤ csTr L O R l' i ∧ csTr L O R l' i < l'.length) := by
      unfold csTr csKt
      split
      · exact Or.inl rfl
      · have F := (fstI_s (csKp (csWp L O R (fun j => l'.getD j.toNat 0) l'.length (fun c => c = R (l'.getD (l'.length - 1) 0)) (fun _ => False)) i) l'.length).1
        exact Or.inr ⟨F.1, by omega⟩
    generalize csTr L O R l' i = X at H kb ⊢
    refine ⟨fun x0 => kOn_of S.1.2.2.2.2.2.2.2.1 ⟨S.2.2.1 8 (by decide) (by decide), by omega, ?_⟩, fun x0 => ?_⟩
    · rw [pif_f (by omega)] at H
      have eX := hq X.toNat (by omega)
      rw [Int.zero_add, show ((X.toNat : Nat) : Int) = X by omega] at eX
      rw [eX]; exact H
    · rw [pif_t (by omega)] at H; exact H
  unfold wpCS_X30_needed
  rw [hm]
  refine ⟨fun z0 => ⟨by omega, fun _ e3 => ?_⟩, fun z0 => kOn_of S.1.2.2.2.2.2.2.2.2 ⟨S.2.1.1, kOn_of S.1.2.2.2.2.2.2.2.1 ⟨S.2.2.1 8 (by decide) (by decide), by omega, by omega, kOn_of S.1.1 ⟨S.2.1.2.1, ?_⟩⟩⟩⟩
  · have l0 : l' = [] := List.length_eq_zero_iff.mp (by omega)
    refine ⟨1, ?_⟩
    rw [wCS_X30_needed_50]
    refine ⟨fun _ => CCS_of mS_0 (fun w => w) hi ?_, fun z => by omega⟩
    rw [csKt_n (fun j _ _ w => w.1)]
    exact ⟨fun q => absurd q (by decide), fun _ => h6 ⟨w, g⟩ ai' ma fc D' (Or.inr (el.trans l0))⟩
  · have ne : ¬ l' = [] := fun q => z0 (by rw [q]; rfl)
    have ell : ai' (A 8) ((l'.length : Int) - 1) = l'.getD (l'.length - 1) 0 := by
      have := hq (l'.length - 1) (by omega)
      rw [Int.zero_add, show ((l'.length - 1 : Nat) : Int) = (l'.length : Int) - 1 by omega] at this
      exact this
    have kl : 0 ≤ l'.getD (l'.length - 1) 0 ∧ l'.getD (l'.length - 1) 0 < m := hb _ (getD_m (by omega))
    obtain ⟨a1, a2, a3, a4, a5⟩ := T.2.1 _ kl.1 kl.2
    have y3 := csH_b hn.2 (T.2.2.2.1 _ kl.1 kl.2).2.2
    rw [ell]
    refine CCS_lget T.1 kl.1 kl.2 (kOn_some ⟨a1, ?_⟩)
    rw [a2]
    refine ⟨⟨y3.1, by omega⟩, fun x2 e2 x3 e3 => ⟨l'.length + 1, ?_⟩⟩
    subst e2 e3
    exact CCS_n50 S T hq hb l20 l'.length (fun c => c = R (l'.getD (l'.length - 1) 0)) (fun _ => False) 0 _ (Nat.le_refl _) mS_0 (mS_one ⟨y3.1, by omega⟩) (fun v hv => fin v hv ne)
theorem CCS_standing {post : Int → Prop} (S : swF kd an mX29_axioms mX29_reasoner mX29_things mX29_above mX29_not mX29_open mX29_under mX30_fired mX30_this_0 A) (T : swA kd an ar mX61_left mX61_right mX61_gone mJ2_elementData mJ2_size (sa 0) (A 1) L O R Th n m e fx) (hp : post (cntI (fun k => ¬ Th k = 0) m.toNat)) : wpCS_X29_standing post kd an ar mX29_axioms mX61_gone mJ2_elementData mJ2_size (A 0) := by
  obtain ⟨t1, t2, t3, t4, t5, t6⟩ := id T
  unfold wpCS_X29_standing
  refine wl2 (fun u v k => wCS_X29_standing_4 _ (A 0) kd an ar mX29_axioms mX61_gone mJ2_elementData mJ2_size u v k) (fun v k => (0 ≤ k ∧ k ≤ m) ∧ v = cntI (fun k => ¬ Th k = 0) k.toNat) (fun _ k => (m - k).toNat) ?_ 0 0 ⟨by omega, rfl⟩
  rintro v k ⟨hk, hv⟩ u ih
  have vb := cntI_b (fun k => ¬ Th k = 0) k.toNat
  rw [wCS_X29_standing_4]
  unfold wpCS_J2_size
  refine kOn_of S.1.1 ⟨S.2.1.2.1, ?_⟩
  rw [t1.2.1]
  refine ⟨fun z => ?_, fun z => CCS_lget t1 hk.1 (by omega) (kOn_some ⟨(t2 k hk.1 (by omega)).1, ?_⟩)⟩
  · have : k = m := by omega
    rw [hv, this]; exact hp
  · have a3 := (t2 k hk.1 (by omega)).2.2.1
    refine ⟨fun g0 => ⟨by omega, fun _ e1 => ⟨by omega, fun _ e2 => ?_⟩⟩, fun g0 => ⟨by omega, fun _ e1 => ⟨by omega, fun _ e2 => ?_⟩⟩⟩
    · subst e1 e2
      exact ih _ _ ⟨by omega, by rw [cntI_t hk.1 (a3.mp g0), hv]⟩ (by omega)
    · subst e1 e2
      exact ih _ _ ⟨by omega, by rw [cntI_f hk.1 (fun q => g0 (a3.mpr q)), hv]; omega⟩ (by omega)
theorem CCS_count {post : Int → Prop} {so qu : Int} (S : swF kd an mX29_axioms mX29_reasoner mX29_things mX29_above mX29_not mX29_open mX29_under mX30_fired mX30_this_0 A) (T : swA kd an ar mX61_left mX61_right mX61_gone mJ2_elementData mJ2_size (sa 0) (A 1) L O R Th n m e fx) (D : swD n f t s me mX29_classes mX29_fuel mX29_thingCount ai A L O R Th m) (Qs : swQ n so pl mX29_sorted mX29_placed mX29_empties A) (eq : mX29_asked (A 0) = qu) (hp : post (csCt n t m qu so Th s pl x)) : wpCS_X29_count post kd an ai ar mX29_axioms mX29_classes mX29_thingCount mX29_open mX29_sorted mX29_placed mX29_asked mX61_gone mJ2_elementData mJ2_size (A 0) x := by
  have hn := T.2.2.2.2.2
  obtain ⟨⟨en, ef, et⟩, hf, ht, hS, hM, hSd, hK, hV, hZ⟩ := id D
  unfold wpCS_X29_count
  unfold csCt at hp
  rw [en, et, eq, Qs.1]
  refine ⟨fun z => ?_, fun z => ⟨fun z1 => ?_, fun z1 => ⟨fun z2 => ?_, fun z2 => ⟨fun z3 => ?_, fun z3 => ⟨fun z4 => ?_, fun z4 => ⟨fun z5 => ⟨fun s0 => ?_, fun s0 => ?_⟩, fun z5 => ⟨fun z6 => ⟨fun s0 => ?_, fun s0 => ?_⟩, fun z6 => ?_⟩⟩⟩⟩⟩⟩⟩
  · rw [if_pos z] at hp; exact hp
  · rw [if_neg z, if_pos z1] at hp; exact CCS_standing S T hp
  · rw [if_neg z, if_neg z1, if_pos z2] at hp; exact hp
  · rw [if_neg z, if_neg z1, if_neg z2, if_pos z3] at hp; exact hp
  · rw [if_neg z, if_neg z1, if_neg z2, if_neg z3, if_pos z4] at hp; exact CCS_openPairs S hS hZ hn en hp
  · rw [if_neg z, if_neg z1, if_neg z2, if_neg z3, if_neg z4, if_pos z5, if_pos s0] at hp; exact hp
  · rw [if_neg z, if_neg z1, if_neg z2, if_neg z3, if_neg z4, if_pos z5, if_neg s0] at hp; exact hp
  · rw [if_neg z, if_neg z1, if_neg z2, if_neg z3, if_neg z4, if_neg z5, if_pos z6, if_pos s0] at hp; exact hp
  · rw [if_neg z, if_neg z1, if_neg z2, if_neg z3, if_neg z4, if_neg z5, if_pos z6, if_neg s0] at hp
    refine CCS_pop (Qs.2 s0).1 ?_
    have ce : cntI (fun c => (0 ≤ c ∧ c < n) ∧ ¬ pl c = 0) 32 = cntI (fun k => ¬ pl k = 0) n.toNat := by
      rw [← cntI_up (p := fun c => (0 ≤ c ∧ c < n) ∧ ¬ pl c = 0) (n := n.toNat) (m := 32) (by omega) (fun j j0 j1 w => by omega)]
      exact cntI_c (fun k k0 k1 => ⟨fun w => w.2, fun w => ⟨by omega, w⟩⟩)
    rw [ce]; exact hp
  · rw [if_neg z, if_neg z1, if_neg z2, if_neg z3, if_neg z4, if_neg z5, if_neg z6] at hp; exact hp
end

/-! ClassifySort, the component (room CS): what comes and goes; the room as a whole -/
section
variable {kd : Nat → Nat} {an : Nat → Nat} {ai : Nat → Int → Int} {al : Nat → Int → Int} {ar : Nat → Int → Option Nat} {mX29_axioms : Nat → Option Nat} {mX29_reasoner : Nat → Option Nat} {mX29_classes : Nat → Int} {mX29_things : Nat → Option Nat} {mX29_thingCount : Nat → Int} {mX29_fuel : Nat → Int} {mX29_above : Nat → Option Nat} {mX29_not : Nat → Option Nat} {mX29_open : Nat → Option Nat} {mX29_under : Nat → Option Nat} {mX29_sorted : Nat → Int} {mX29_placed : Nat → Int} {mX29_empties : Nat → Int} {mX29_asked : Nat → Int} {mX30_fired : Nat → Option Nat} {mX30_many : Nat → Int} {mX30_facts : Nat → Int} {mX30_this_0 : Nat → Option Nat} {mX61_left : Nat → Int} {mX61_right : Nat → Int} {mX61_gone : Nat → Int} {mJ1_modCount : Nat → Int} {mJ2_elementData : Nat → Option Nat} {mJ2_size : Nat → Int} {sa : Nat → Nat} {A : Nat → Nat} {L O R Th s fa pl lk me fi : Int → Int} {n m f g t x y i k c d a b q v w z : Int} {e : Nat} {fx : Int → Nat} {P Q : Int → Prop} {MC MS : Nat}
theorem swF.le {kd' an' : Nat → Nat} (S : swF kd an mX29_axioms mX29_reasoner mX29_things mX29_above mX29_not mX29_open mX29_under mX30_fired mX30_this_0 A) (h : kLe kd an kd' an') : swF kd' an' mX29_axioms mX29_reasoner mX29_things mX29_above mX29_not mX29_open mX29_under mX30_fired mX30_this_0 A := by
  obtain ⟨s1, ⟨k0, k1, k2⟩, s3, ⟨a3, a4, a5, a6, a7, a8⟩, s5⟩ := S
  have ae : ∀ j, 3 ≤ j → j ≤ 8 → an' (A j) = an (A j) := fun j h0 h1 => h.an (s3 j h0 h1) (by decide)
  exact ⟨s1, ⟨h.kd k0 (by decide), h.kd k1 (by decide), h.kd k2 (by decide)⟩, fun j h0 h1 => h.kd (s3 j h0 h1) (by decide), ⟨(ae 3 (by decide) (by decide)).trans a3, (ae 4 (by decide) (by decide)).trans a4, (ae 5 (by decide) (by decide)).trans a5, (ae 6 (by decide) (by decide)).trans a6, (ae 7 (by decide) (by decide)).trans a7, (ae 8 (by decide) (by decide)).trans a8⟩, s5⟩
theorem csFo_v (y : Int) : csFo s y = s y ∨ (csFo s y = 3 ∧ s y = 2) := by
  unfold csFo
  by_cases w : 0 ≤ y ∧ y < 420 ∧ s y = 2
  · rw [if_pos w]; exact Or.inr ⟨rfl, w.2.2⟩
  · rw [if_neg w]; exact Or.inl rfl
theorem csFo_e (hn : n ≤ 20) (ha : 0 ≤ a ∧ a < n) (hb : csH n b) : csFo s (21 * a + b) = if s (21 * a + b) = 2 then 3 else s (21 * a + b) := by
  have B := csH_b hn hb
  unfold csFo
  by_cases w : s (21 * a + b) = 2
  · rw [if_pos w, if_pos ⟨by omega, by omega, w⟩]
  · rw [if_neg w, if_neg (fun q => w q.2.2)]
theorem csK_fo (h : csK n L O R Th m s) : csK n L O R Th m (csFo s) := by
  have e1 : ∀ y, csFo s y = 1 ↔ s y = 1 := fun y => by rcases csFo_v (s := s) y with w | w <;> omega
  have e0 : ∀ y, csFo s y = 0 ↔ s y = 0 := fun y => by rcases csFo_v (s := s) y with w | w <;> omega
  have up : ∀ u v, csY n (csB0 L O R Th m (csFo s)) u v → csY n (csB0 L O R Th m s) u v := fun u v w => csY_m (fun x' y' hx hy v => by
    rcases v with v | v | v | v
    · exact csY_b hx hy (Or.inl v)
    · exact csY_b hx hy (Or.inr (Or.inl v))
    · exact csY_b hx hy (Or.inr (Or.inr (Or.inl ((e1 _).mp v))))
    · exact csY_b hx hy (Or.inr (Or.inr (Or.inr v)))) w
  refine ⟨fun a b ha hb w => (h.1 a b ha hb (up _ _ w)).imp id (fun q => (e1 _).mpr q), fun a b ha hb w => ?_⟩
  obtain ⟨a', b', h1, h3, h4, h5⟩ := w
  exact (e0 _).mpr (h.2 a b ha hb ⟨a', b', h1, (e0 _).mp h3, up _ _ h4, up _ _ h5⟩)
theorem csVa_fo (hn : n ≤ 20) (h : csVa n s) : csVa n (csFo s) := fun a b a0 a1 hb => by
  have := h a b a0 a1 hb
  rcases csFo_v (s := s) (21 * a + b) with w | w <;> omega
theorem CCS_fuel {post : Int → (Nat → Int → Int) → (Nat → Int) → (Nat → Int) → Prop} {x1 : Int} (S : swF kd an mX29_axioms mX29_reasoner mX29_things mX29_above mX29_not mX29_open mX29_under mX30_fired mX30_this_0 A) (hn : 0 ≤ n ∧ n ≤ 20) (D : swD n f t s me mX29_classes mX29_fuel mX29_thingCount ai A L O R Th m) (h2 : ¬ (0 ≤ x1 ∧ x1 ≤ 20) → post (-2) ai mX29_fuel mX29_sorted) (h0 : 0 ≤ x1 ∧ x1 ≤ 20 → ∀ ai' fu so, swD n x1 t (csFo s) me mX29_classes fu mX29_thingCount ai' A L O R Th m → so (A 0) = 0 → post (csOp s) ai' fu so) : wpCS_X29_fuel post kd an ai mX29_classes mX29_fuel mX29_open mX29_sorted (A 0) x1 := by
  obtain ⟨⟨en, ef, et⟩, hf, ht, hS, hM, hSd, hK, hV, hZ⟩ := id D
  have l6 : (an (A 6) : Int) = 21 := by rw [S.2.2.2.1.2.2.2.1]; rfl
  unfold wpCS_X29_fuel
  refine ⟨fun z => h2 (by omega), fun z => ⟨fun z2 => CCS_openPairs S hS hZ hn en ?_, fun z2 => h2 (by omega)⟩⟩
  have n46 : A 4 ≠ A 6 := S.ne (i := 4) (j := 6) (by decide)
  have n56 : A 5 ≠ A 6 := S.ne (i := 5) (j := 6) (by decide)
  have n76 : A 7 ≠ A 6 := S.ne (i := 7) (j := 6) (by decide)
  have n36 : A 3 ≠ A 6 := S.ne (i := 3) (j := 6) (by decide)
  refine wl2 (fun u c ai => wCS_X29_fuel_20 _ (A 0) kd an mX29_classes mX29_open u c ai) (fun c ai' => (0 ≤ c ∧ c ≤ n) ∧ swE ai ai' (fun a => a = A 6) ∧ swR2 (ai' (A 6)) (fun a b => c ≤ a ∧ a < n ∧ csH n b ∧ s (21 * a + b) = 2)) (fun c _ => (n - c).toNat) ?_ 0 ai ⟨by omega, fun _ _ => rfl, swR2_c (X := fun a b => a < n ∧ csH n b ∧ s (21 * a + b) = 2) hS.2.2.1 (fun a a0 _ b _ _ => ⟨fun w => ⟨a0, w⟩, fun w => w.2⟩)⟩
  rintro c ai' ⟨hc, hE, hR⟩ u ih
  rw [wCS_X29_fuel_20, en]
  refine ⟨fun z => fun fu efu so eso => ?_, fun z => kOn_of S.1.2.2.2.2.2.1 ⟨S.2.2.1 6 (by decide) (by decide), by omega, fun ai2 ea => ⟨by omega, fun _ e1 => ?_⟩⟩⟩
  · refine h0 ⟨by omega, z2⟩ ai' fu so ⟨⟨en, by rw [efu, va_up_self], et⟩, ⟨by omega, z2⟩, ht, ⟨fun a a0 a1 => ?_, fun a a0 a1 => ?_, fun a a0 a1 => ?_, fun b b0 b1 => ?_⟩, fun j j0 j1 => by rw [hE _ n36]; exact hM j j0 j1, csSd_fo hn.2 hSd, csK_fo hK, csVa_fo hn.2 hV, csZ_fo hZ⟩ (by rw [eso, va_up_self])
    · rw [hE _ n46]
      refine mS_c (hS.1 a a0 a1) (fun b _ _ => ⟨fun w => ⟨w.1, w.2.1, w.2.2.imp id (fun q => ?_)⟩, fun w => ⟨w.1, w.2.1, w.2.2.imp id (fun q => ?_)⟩⟩) <;> rcases csFo_v (s := s) (21 * a + b) with r | r <;> omega
    · rw [hE _ n56]
      refine mS_c (hS.2.1 a a0 a1) (fun b _ _ => ⟨fun w => ⟨w.1, w.2.1, ?_⟩, fun w => ⟨w.1, w.2.1, ?_⟩⟩) <;> rcases csFo_v (s := s) (21 * a + b) with r | r <;> omega
    · refine mS_c (hR a a0 a1) (fun b _ _ => ⟨fun w => by omega, fun w => ?_⟩)
      have q := w.2.2
      rw [csFo_e hn.2 ⟨a0, w.1⟩ w.2.1] at q
      split at q <;> omega
    · rw [hE _ n76]
      refine mS_c (hS.2.2.2 b b0 b1) (fun a _ _ => ⟨fun w => ⟨w.1, w.2.1, w.2.2.imp id (fun q => ?_)⟩, fun w => ⟨w.1, w.2.1, w.2.2.imp id (fun q => ?_)⟩⟩) <;> rcases csFo_v (s := s) (21 * a + b) with r | r <;> omega
  · subst ea e1
    refine ih _ _ ⟨by omega, fun a ha => by rw [va_up_ne _ _ ha]; exact hE a ha, ?_⟩ (by omega)
    rw [va_up_self]
    exact swR2_up hR (mS_c mS_0 (fun b _ _ => ⟨fun w => w.elim, fun w => by omega⟩)) (fun a _ _ na b _ _ => ⟨fun w => ⟨by omega, w.2⟩, fun w => ⟨by omega, w.2⟩⟩)
theorem CCS_thing {post : Int → (Nat → Int) → Prop} (et : mX29_thingCount (A 0) = t) (ht : 0 ≤ t ∧ t ≤ 8) (h4 : t = 8 → post (-4) mX29_thingCount) (h0 : t < 8 → ∀ tc, tc (A 0) = t + 1 → post t tc) : wpCS_X29_thing post mX29_thingCount (A 0) := by
  unfold wpCS_X29_thing
  rw [et]
  refine ⟨h4, fun z => ⟨by omega, fun v ev tc etc => ?_⟩⟩
  have e1 : tc (A 0) = t + 1 := by rw [etc, va_up_self, ev]
  rw [e1, show t + 1 - 1 = t by omega]
  exact ⟨by omega, h0 (by omega) tc e1⟩
/-- the rows of above when an axiom comes or goes -/
theorem csB_r (hK : csK n L O R Th m s) (hc : csH n c) (hd : csH n d) : csB s c d ↔ c = d ∨ c = 20 ∨ s (21 * c + d) = 1 := ⟨fun w => Or.inr w, fun w => w.elim (fun q => by rw [← q]; exact csK_r hK hc) id⟩
theorem CCS_l98 {K : (Nat → Int → Int) → Prop} {kc ks : Nat} {Tc : Int → Prop} (S : swF kd an mX29_axioms mX29_reasoner mX29_things mX29_above mX29_not mX29_open mX29_under mX30_fired mX30_this_0 A) (hn : 0 ≤ n ∧ n ≤ 20) (en : mX29_classes (A 0) = n) (hkc : kc ≤ MC ∧ ks ≤ MS) {N U : Int → Int → Prop} (hN : swR2 (ai (A 5)) N) (hU : swR2 (ai (A 6)) U) (hv : mS v (fun c => (0 ≤ c ∧ c < n) ∧ Tc c))
    (hp : ∀ ai', swE ai ai' (fun a => a = A 5 ∨ a = A 6) → swR2 (ai' (A 5)) (fun a b => N a b ∧ ¬ (a < n ∧ Tc a)) → swR2 (ai' (A 6)) (fun a b => U a b ∧ ¬ (a < n ∧ Tc a)) → K ai') : ∃ fu, wCS_X29_axiom_98 MC MS K (A 0) v kd an mX29_classes mX29_not mX29_open kc ks fu 0 ai := by
  have l5 : (an (A 5) : Int) = 21 := by rw [S.2.2.2.1.2.2.1]; rfl
  have l6 : (an (A 6) : Int) = 21 := by rw [S.2.2.2.1.2.2.2.1]; rfl
  have n56 : A 5 ≠ A 6 := S.ne (i := 5) (j := 6) (by decide)
  refine wl2 (fun u c ai => wCS_X29_axiom_98 MC MS K (A 0) v kd an mX29_classes mX29_not mX29_open kc ks u c ai) (fun c ai' => (0 ≤ c ∧ c ≤ n) ∧ swE ai ai' (fun a => a = A 5 ∨ a = A 6) ∧ swR2 (ai' (A 5)) (fun a b => N a b ∧ ¬ (a < c ∧ Tc a)) ∧ swR2 (ai' (A 6)) (fun a b => U a b ∧ ¬ (a < c ∧ Tc a))) (fun c _ => (n - c).toNat) ?_ 0 ai ⟨by omega, fun _ _ => rfl, swR2_c hN (fun a a0 _ b _ _ => ⟨fun w => ⟨w, fun q => by omega⟩, fun w => w.1⟩), swR2_c hU (fun a a0 _ b _ _ => ⟨fun w => ⟨w, fun q => by omega⟩, fun w => w.1⟩)⟩
  rintro c ai' ⟨hc, hE, h5, h6⟩ u ih
  rw [wCS_X29_axiom_98, en]
  refine ⟨fun z => ?_, fun z => ⟨hkc, CCS_hasB hv hc.1 (by omega) (fun w => kOn_of S.1.2.2.2.2.1 ⟨S.2.2.1 5 (by decide) (by decide), by omega, fun ai2 e2 => kOn_of S.1.2.2.2.2.2.1 ⟨S.2.2.1 6 (by decide) (by decide), by omega, fun ai3 e3 => ⟨by omega, fun _ e1 => ?_⟩⟩⟩) (fun w => ⟨by omega, fun _ e1 => ?_⟩)⟩⟩
  · have ec : c = n := by omega
    rw [ec] at h5 h6
    exact hp ai' hE h5 h6
  · subst e1
    have E5 : ai3 (A 5) = updI (ai' (A 5)) c 0 := by rw [e3, va_up_ne _ _ n56, e2, va_up_self]
    have E6 : ai3 (A 6) = updI (ai' (A 6)) c 0 := by rw [e3, va_up_self, e2, va_up_ne _ _ n56.symm]
    refine ih _ _ ⟨by omega, fun a ha => by rw [e3, va_up_ne _ _ (fun q => ha (Or.inr q)), e2, va_up_ne _ _ (fun q => ha (Or.inl q))]; exact hE a ha, ?_, ?_⟩ (by omega)
    · rw [E5]
      exact swR2_up h5 (mS_c mS_0 (fun b _ _ => ⟨fun q => q.elim, fun q => q.2 ⟨by omega, w.2⟩⟩)) (fun a _ _ na b _ _ => ⟨fun q => ⟨q.1, fun r => q.2 ⟨by omega, r.2⟩⟩, fun q => ⟨q.1, fun r => q.2 ⟨by omega, r.2⟩⟩⟩)
    · rw [E6]
      exact swR2_up h6 (mS_c mS_0 (fun b _ _ => ⟨fun q => q.elim, fun q => q.2 ⟨by omega, w.2⟩⟩)) (fun a _ _ na b _ _ => ⟨fun q => ⟨q.1, fun r => q.2 ⟨by omega, r.2⟩⟩, fun q => ⟨q.1, fun r => q.2 ⟨by omega, r.2⟩⟩⟩)
  · subst e1
    have nt : ∀ a : Int, a = c → ¬ Tc a := fun a ea q => w ⟨⟨hc.1, by omega⟩, by rw [← ea]; exact q⟩
    have ne : ∀ a : Int, (a < c + 1 ∧ Tc a) ↔ (a < c ∧ Tc a) := fun a => ⟨fun q => ⟨(fun (h : ¬ a = c) => by omega) (fun ea => nt a ea q.2), q.2⟩, fun q => ⟨by omega, q.2⟩⟩
    exact ih _ _ ⟨by omega, hE, swR2_c h5 (fun a _ _ b _ _ => by rw [ne a]), swR2_c h6 (fun a _ _ b _ _ => by rw [ne a])⟩ (by omega)
theorem CCS_l66 {K : (Nat → Int → Int) → Prop} {Tc : Int → Prop} (S : swF kd an mX29_axioms mX29_reasoner mX29_things mX29_above mX29_not mX29_open mX29_under mX30_fired mX30_this_0 A) (hn : 0 ≤ n ∧ n ≤ 20) (en : mX29_classes (A 0) = n) {N U : Int → Int → Prop} (hN : swR (ai (A 4)) N) (hU : swR2 (ai (A 6)) U) (hv : mS v (fun c => (0 ≤ c ∧ c < n) ∧ Tc c))
    (hp : ∀ ai', swE ai ai' (fun a => a = A 4 ∨ a = A 6) → swR (ai' (A 4)) (fun a b => (N a b ∧ ¬ (a < n ∧ Tc a)) ∨ ((a < n ∧ Tc a) ∧ b = a)) → swR2 (ai' (A 6)) (fun a b => U a b ∧ ¬ (a < n ∧ Tc a)) → K ai') : ∃ fu, wCS_X29_remove_66 K (A 0) v kd an mX29_classes mX29_above mX29_open fu 0 ai := by
  have l4 : (an (A 4) : Int) = 21 := by rw [S.2.2.2.1.2.1]; rfl
  have l6 : (an (A 6) : Int) = 21 := by rw [S.2.2.2.1.2.2.2.1]; rfl
  have n46 : A 4 ≠ A 6 := S.ne (i := 4) (j := 6) (by decide)
  refine wl2 (fun u c ai => wCS_X29_remove_66 K (A 0) v kd an mX29_classes mX29_above mX29_open u c ai) (fun c ai' => (0 ≤ c ∧ c ≤ n) ∧ swE ai ai' (fun a => a = A 4 ∨ a = A 6) ∧ swR (ai' (A 4)) (fun a b => (N a b ∧ ¬ (a < c ∧ Tc a)) ∨ ((a < c ∧ Tc a) ∧ b = a)) ∧ swR2 (ai' (A 6)) (fun a b => U a b ∧ ¬ (a < c ∧ Tc a))) (fun c _ => (n - c).toNat) ?_ 0 ai ⟨by omega, fun _ _ => rfl, swR_c hN (fun a a0 _ b _ _ => ⟨fun w => Or.inl ⟨w, fun q => by omega⟩, fun w => w.elim (fun w => w.1) (fun w => by omega)⟩), swR2_c hU (fun a a0 _ b _ _ => ⟨fun w => ⟨w, fun q => by omega⟩, fun w => w.1⟩)⟩
  rintro c ai' ⟨hc, hE, h5, h6⟩ u ih
  rw [wCS_X29_remove_66, en]
  refine ⟨fun z => ?_, fun z => CCS_hasB hv hc.1 (by omega) (fun w => ⟨⟨hc.1, by omega⟩, fun v4 ev4 => kOn_of S.1.2.2.2.1 ⟨S.2.2.1 4 (by decide) (by decide), by omega, fun ai2 e2 => kOn_of S.1.2.2.2.2.2.1 ⟨S.2.2.1 6 (by decide) (by decide), by omega, fun ai3 e3 => ⟨by omega, fun _ e1 => ?_⟩⟩⟩⟩) (fun w => ⟨by omega, fun _ e1 => ?_⟩)⟩
  · have ec : c = n := by omega
    rw [ec] at h5 h6
    exact hp ai' hE h5 h6
  · subst e1
    have E5 : ai3 (A 4) = updI (ai' (A 4)) c (2 ^ c.toNat) := by rw [e3, va_up_ne _ _ n46, e2, va_up_self, ev4]
    have E6 : ai3 (A 6) = updI (ai' (A 6)) c 0 := by rw [e3, va_up_self, e2, va_up_ne _ _ n46.symm]
    refine ih _ _ ⟨by omega, fun a ha => by rw [e3, va_up_ne _ _ (fun q => ha (Or.inr q)), e2, va_up_ne _ _ (fun q => ha (Or.inl q))]; exact hE a ha, ?_, ?_⟩ (by omega)
    · rw [E5]
      exact swR_up h5 (mS_c (mS_one ⟨hc.1, by omega⟩) (fun b _ _ => ⟨fun q => Or.inr ⟨⟨by omega, w.2⟩, q⟩, fun q => q.elim (fun q => absurd ⟨by omega, w.2⟩ q.2) (fun q => q.2)⟩)) (fun a _ _ na b _ _ => ⟨fun q => q.imp (fun q => ⟨q.1, fun r => q.2 ⟨by omega, r.2⟩⟩) (fun q => ⟨⟨by omega, q.1.2⟩, q.2⟩), fun q => q.imp (fun q => ⟨q.1, fun r => q.2 ⟨by omega, r.2⟩⟩) (fun q => ⟨⟨by omega, q.1.2⟩, q.2⟩)⟩)
    · rw [E6]
      exact swR2_up h6 (mS_c mS_0 (fun b _ _ => ⟨fun q => q.elim, fun q => q.2 ⟨by omega, w.2⟩⟩)) (fun a _ _ na b _ _ => ⟨fun q => ⟨q.1, fun r => q.2 ⟨by omega, r.2⟩⟩, fun q => ⟨q.1, fun r => q.2 ⟨by omega, r.2⟩⟩⟩)
  · subst e1
    have nt : ∀ a : Int, a = c → ¬ Tc a := fun a ea q => w ⟨⟨hc.1, by omega⟩, by rw [← ea]; exact q⟩
    have ne : ∀ a : Int, (a < c + 1 ∧ Tc a) ↔ (a < c ∧ Tc a) := fun a => ⟨fun q => ⟨(fun (h : ¬ a = c) => by omega) (fun ea => nt a ea q.2), q.2⟩, fun q => ⟨by omega, q.2⟩⟩
    exact ih _ _ ⟨by omega, hE, swR_c h5 (fun a _ _ b _ _ => by rw [ne a]), swR2_c h6 (fun a _ _ b _ _ => by rw [ne a])⟩ (by omega)
theorem csVa_fg {one : Int} (h : csVa n s) : csVa n (csFg n L O R Th m x one s) := fun a b a0 a1 hb => by
  have := h a b a0 a1 hb
  rcases csFg_v (n := n) (L := L) (O := O) (R := R) (Th := Th) (m := m) (x := x) (s := s) (one := one) (21 * a + b) with w | w <;> omega
/-- what was forgotten and then closed: the rest of the room's facts -/
theorem swD_cl {L' O' R' Th' : Int → Int} {m' n' : Int} {s1 : Int → Int} {ai1 ai' : Nat → Int → Int} (S : swF kd an mX29_axioms mX29_reasoner mX29_things mX29_above mX29_not mX29_open mX29_under mX30_fired mX30_this_0 A) (D : swD n f t s me mX29_classes mX29_fuel mX29_thingCount ai A L O R Th m) (hn : n' ≤ 20) (Sd : csSd n' L' O' R' Th' m' s1) (hV : csVa n' s1) (hZ : csZ n' s1) {cl : Nat → Int} (ec : cl (A 0) = n') (E1 : ai1 (A 3) = ai (A 3)) (E2 : swE ai1 ai' (fun a => a = A 4 ∨ a = A 5 ∨ a = A 6 ∨ a = A 7)) (hS : swS n' (csCl n' L' O' R' Th' m' s1) (ai' (A 4)) (ai' (A 5)) (ai' (A 6)) (ai' (A 7))) : swD n' f t (csCl n' L' O' R' Th' m' s1) me cl mX29_fuel mX29_thingCount ai' A L' O' R' Th' m' := by
  obtain ⟨⟨en, ef, et⟩, hf, ht, _, hM, _⟩ := D
  have e3 : ai' (A 3) = ai (A 3) := (E2 _ (fun q => by
    rcases q with q | q | q | q
    · exact S.ne (i := 3) (j := 4) (by decide) q
    · exact S.ne (i := 3) (j := 5) (by decide) q
    · exact S.ne (i := 3) (j := 6) (by decide) q
    · exact S.ne (i := 3) (j := 7) (by decide) q)).trans E1
  exact ⟨⟨ec, ef, et⟩, hf, ht, hS, fun j j0 j1 => by rw [e3]; exact hM j j0 j1, csSd_cl hn Sd, csK_cl hn (csSd_ok Sd), csVa_cl hn hV, csZ_cl hZ⟩
theorem CCS_remove {post : Int → (Nat → Int → Int) → (Nat → Int) → (Nat → Int) → Prop} (S : swF kd an mX29_axioms mX29_reasoner mX29_things mX29_above mX29_not mX29_open mX29_under mX30_fired mX30_this_0 A) (T : swA kd an ar mX61_left mX61_right mX61_gone mJ2_elementData mJ2_size (sa 0) (A 1) L O R Th n m e fx) (D : swD n f t s me mX29_classes mX29_fuel mX29_thingCount ai A L O R Th m) (h1 : ¬ ((0 ≤ x ∧ x < m) ∧ ¬ Th x = 0) → post (-1) ai mX29_sorted mX61_gone)
    (h0 : (0 ≤ x ∧ x < m) ∧ ¬ Th x = 0 → ∀ ai' so go, swA kd an ar mX61_left mX61_right go mJ2_elementData mJ2_size (sa 0) (A 1) L O R (updI Th x 0) n m e fx → swD n f t (csCl n L O R (updI Th x 0) m (csFg n L O R Th m x 1 s)) me mX29_classes mX29_fuel mX29_thingCount ai' A L O R (updI Th x 0) m → so (A 0) = 0 → post (csLo s (csCl n L O R (updI Th x 0) m (csFg n L O R Th m x 1 s))) ai' so go) : wpCS_X29_remove post kd an ai ar mX29_axioms mX29_classes mX29_above mX29_not mX29_open mX29_under mX29_sorted mX61_left mX61_right mX61_gone mJ2_elementData mJ2_size (A 0) x := by
  obtain ⟨t1, t2, t3, t4, t5, hn⟩ := id T
  obtain ⟨⟨en, ef, et⟩, hf, ht, hS, hM, hSd, hK, hV, hZ⟩ := id D
  have n36 : A 3 ≠ A 6 := S.ne (i := 3) (j := 6) (by decide)
  have n34 : A 3 ≠ A 4 := S.ne (i := 3) (j := 4) (by decide)
  have n54 : A 5 ≠ A 4 := S.ne (i := 5) (j := 4) (by decide)
  have n56 : A 5 ≠ A 6 := S.ne (i := 5) (j := 6) (by decide)
  unfold wpCS_X29_remove wpCS_J2_size
  refine ⟨fun z => h1 (by omega), fun z => kOn_of S.1.1 ⟨S.2.1.2.1, ?_⟩⟩
  rw [t1.2.1]
  refine ⟨fun z2 => h1 (by omega), fun z2 => CCS_lget t1 (by omega) (by omega) (kOn_some ⟨(t2 x (by omega) (by omega)).1, ?_⟩)⟩
  have hx : 0 ≤ x ∧ x < m := by omega
  have g := (t2 x hx.1 hx.2).2.2.1
  refine ⟨fun g0 => CCS_said S hS hZ hV hn en (CCS_lget t1 hx.1 hx.2 (kOn_some ⟨(t2 x hx.1 hx.2).1, CCS_touched S T en hx (fun v hv => fun go ego => ?_)⟩)), fun g0 => h1 (fun q => g0 (g.mpr q.2))⟩
  have hth := g.mp g0
  have T' : swA kd an ar mX61_left mX61_right go mJ2_elementData mJ2_size (sa 0) (A 1) L O R (updI Th x 0) n m e fx := by
    refine ⟨t1, fun k k0 k1 => ?_, t3, t4, t5, hn⟩
    obtain ⟨a1, a2, a3, a4, a5⟩ := t2 k k0 k1
    refine ⟨a1, a2, ?_, a4, a5⟩
    by_cases q : k = x
    · rw [q, ego, va_up_self, updI_s]; exact ⟨fun w => absurd w (by decide), fun w => absurd rfl w⟩
    · rw [ego, va_up_ne _ _ (t3 k x k0 k1 hx.1 hx.2 q), updI_n q]; exact a3
  have Sd' := csSd_rm hn.2 hSd hx t4
  refine CCS_l66 S hn en (N := fun a b => csH n a ∧ csH n b ∧ csB s a b) (U := fun a b => a < n ∧ csH n b ∧ s (21 * a + b) = 2) hS.1 hS.2.2.1 hv (fun a1 E1 R4 R6 => ?_)
  have fv : ∀ a b, 0 ≤ a → a < n → csH n b → csFg n L O R Th m x 1 s (21 * a + b) = pif (csTc L O R Th m a x ∧ (s (21 * a + b) = 1 ∨ s (21 * a + b) = 2)) 3 (s (21 * a + b)) := fun a b a0 a1 hb => csFg_e hn.2 ⟨a0, a1⟩ hb
  refine CCS_close S T' en (s := csFg n L O R Th m x 1 s) (swR_c R4 (fun a a0 _ b _ _ => ⟨fun w => ?_, fun w => ?_⟩)) ?_ (swR2_c R6 (fun a a0 _ b _ _ => ⟨fun w => ?_, fun w => ?_⟩)) (csSd_ok Sd') (fun a2 E2 S2 => ?_)
  · rcases w with ⟨w, nt⟩ | ⟨⟨an', tc⟩, w⟩
    · refine ⟨w.1, w.2.1, ?_⟩
      by_cases q : a < n
      · rw [fv a b a0 q w.2.1, pif_f (fun r => nt ⟨q, r.1⟩)]; exact (csB_r hK w.1 w.2.1).mp w.2.2
      · have : a = 20 := by have := w.1; unfold csH at this; omega
        exact Or.inr (Or.inl this)
    · rw [w]; exact ⟨csH_l a0 an', csH_l a0 an', Or.inl rfl⟩
  · by_cases q : a < n ∧ csTc L O R Th m a x
    · refine Or.inr ⟨q, ?_⟩
      have w2 := w.2.2
      rw [fv a b a0 q.1 w.2.1] at w2
      by_cases r : s (21 * a + b) = 1 ∨ s (21 * a + b) = 2
      · rw [pif_t ⟨q.2, r⟩] at w2; omega
      · rw [pif_f (fun u => r u.2)] at w2; omega
    · refine Or.inl ⟨⟨w.1, w.2.1, ?_⟩, q⟩
      by_cases r : a < n
      · have w2 := w.2.2
        rw [fv a b a0 r w.2.1, pif_f (fun u => q ⟨r, u.1⟩)] at w2
        exact (csB_r hK w.1 w.2.1).mpr w2
      · have : a = 20 := by have := w.1; unfold csH at this; omega
        exact Or.inl this
  · rw [E1 _ (fun q => q.elim n54 n56)]
    refine swR2_c (X := fun a b => a < n ∧ csH n b ∧ s (21 * a + b) = 0) hS.2.1 (fun a a0 _ b _ _ => ⟨fun w => ⟨w.1, w.2.1, ?_⟩, fun w => ⟨w.1, w.2.1, ?_⟩⟩)
    · rw [fv a b a0 w.1 w.2.1, pif_f (fun u => by have := u.2; have := w.2.2; omega)]; exact w.2.2
    · have w2 := w.2.2
      rcases csFg_v (n := n) (L := L) (O := O) (R := R) (Th := Th) (m := m) (x := x) (s := s) (one := 1) (21 * a + b) with r | r <;> omega
  · refine ⟨w.1.1, w.1.2.1, ?_⟩
    rw [fv a b a0 w.1.1 w.1.2.1, pif_f (fun u => w.2 ⟨w.1.1, u.1⟩)]; exact w.1.2.2
  · have w2 := w.2.2
    rw [fv a b a0 w.1 w.2.1] at w2
    by_cases r : csTc L O R Th m a x ∧ (s (21 * a + b) = 1 ∨ s (21 * a + b) = 2)
    · rw [pif_t r] at w2; omega
    · rw [pif_f r] at w2; exact ⟨⟨w.1, w.2.1, w2⟩, fun q => r ⟨q.2, Or.inr w2⟩⟩
  · have D' := swD_cl S D hn.2 Sd' (csVa_fg hV) (csZ_fg hZ) en (E1 _ (fun q => q.elim n34 n36)) E2 S2
    intro so eso
    have H := h0 ⟨hx, hth⟩ a2 so go T' D' (by rw [eso, va_up_self])
    rw [← csLo_d (csRm_le hn.2 hK)] at H
    have b1 := cntI_b (fun x => ¬ s x = 3) 420
    have b2 := cntI_b (fun y => ¬ csCl n L O R (updI Th x 0) m (csFg n L O R Th m x 1 s) y = 3) 420
    exact CCS_said S S2 D'.2.2.2.2.2.2.2.2 D'.2.2.2.2.2.2.2.1 hn en ⟨by omega, H⟩
theorem CCS_class0 {post : Int → (Nat → Int → Int) → (Nat → Int) → (Nat → Int) → Prop} (S : swF kd an mX29_axioms mX29_reasoner mX29_things mX29_above mX29_not mX29_open mX29_under mX30_fired mX30_this_0 A) (T : swA kd an ar mX61_left mX61_right mX61_gone mJ2_elementData mJ2_size (sa 0) (A 1) L O R Th n m e fx) (D : swD n f t s me mX29_classes mX29_fuel mX29_thingCount ai A L O R Th m) (h4 : n = 20 → post (-4) ai mX29_classes mX29_sorted)
    (h0 : n < 20 → ∀ ai' cl so, swA kd an ar mX61_left mX61_right mX61_gone mJ2_elementData mJ2_size (sa 0) (A 1) L O R Th (n + 1) m e fx → swD (n + 1) f t (csCl (n + 1) L O R Th m s) me cl mX29_fuel mX29_thingCount ai' A L O R Th m → so (A 0) = 0 → post n ai' cl so) : wpCS_X29_class0 post kd an ai ar mX29_axioms mX29_classes mX29_above mX29_not mX29_open mX29_under mX29_sorted mX61_left mX61_right mX61_gone mJ2_elementData mJ2_size (A 0) := by
  obtain ⟨t1, t2, t3, t4, t5, hn⟩ := id T
  obtain ⟨⟨en, ef, et⟩, hf, ht, hS, hM, hSd, hK, hV, hZ⟩ := id D
  have l4 : (an (A 4) : Int) = 21 := by rw [S.2.2.2.1.2.1]; rfl
  have n34 : A 3 ≠ A 4 := S.ne (i := 3) (j := 4) (by decide)
  have n54 : A 5 ≠ A 4 := S.ne (i := 5) (j := 4) (by decide)
  have n64 : A 6 ≠ A 4 := S.ne (i := 6) (j := 4) (by decide)
  unfold wpCS_X29_class0
  rw [en]
  refine ⟨h4, fun z => ⟨⟨hn.1, by omega⟩, fun v ev => kOn_of S.1.2.2.2.1 ⟨S.2.2.1 4 (by decide) (by decide), by omega, fun a1 e1 => ⟨by omega, fun v2 ev2 a2 e2 => ⟨by omega, fun v3 ev3 cl ecl => ?_⟩⟩⟩⟩⟩
  have n20 : n < 20 := by omega
  have T' : swA kd an ar mX61_left mX61_right mX61_gone mJ2_elementData mJ2_size (sa 0) (A 1) L O R Th (n + 1) m e fx := ⟨t1, t2, t3, csAx_cs t4, t5, by omega⟩
  have Sd' := csSd_cs hSd hZ ⟨hn.1, n20⟩
  have ecl' : cl (A 0) = n + 1 := by rw [ecl, va_up_self, ev3]
  have hH : ∀ a, csH (n + 1) a ↔ csH n a ∨ a = n := fun a => by unfold csH; omega
  have out : ∀ a b, 0 ≤ a → a ≤ n → 0 ≤ b → b < 21 → ¬ (a < n ∧ csH n b) → s (21 * a + b) = 3 := fun a b a0 _ b0 b1 q => Classical.byContradiction (fun r => q (csZ_h hZ a0 hn.2 b0 b1 r))
  have E4 : a2 (A 4) = updI (updI (ai (A 4)) n (2 ^ n.toNat)) 20 (zor (ai (A 4) 20) (2 ^ n.toNat)) := by
    rw [e2, va_up_self, ev2, e1, va_up_self, updI_n (by omega), ev]
  have Eo : ∀ z, z ≠ A 4 → a2 z = ai z := fun z hz => by rw [e2, va_up_ne _ _ hz, e1, va_up_ne _ _ hz]
  have one := mS_one (j := n) ⟨hn.1, by omega⟩
  refine CCS_close S T' ecl' (s := s) (fun a a0 a1 => ?_) ?_ ?_ (csSd_ok Sd') (fun a3 E3 S3 so eso => ?_)
  · rw [E4]
    by_cases q : a = 20
    · rw [q, updI_s]
      refine mS_c (mS_or (hS.1 20 (by decide) (by decide)) one) (fun b b0 b1 => ⟨fun w => ⟨csH_20, (hH b).mpr (w.imp (fun w => w.2.1) id), Or.inr (Or.inl rfl)⟩, fun w => ((hH b).mp w.2.1).imp (fun r => ⟨csH_20, r, Or.inl rfl⟩) id⟩)
    · rw [updI_n q]
      by_cases r : a = n
      · rw [r, updI_s]
        refine mS_c one (fun b b0 b1 => ⟨fun w => ⟨(hH n).mpr (Or.inr rfl), (hH b).mpr (Or.inr w), Or.inl w.symm⟩, fun w => ?_⟩)
        have hb := csH_b (by omega) w.2.1
        rcases w.2.2 with u | u | u
        · exact u.symm
        · omega
        · rw [out n b hn.1 (by omega) hb.1 (by omega) (fun v => by omega)] at u; exact absurd u (by decide)
      · rw [updI_n r]
        refine mS_c (hS.1 a a0 a1) (fun b b0 b1 => ⟨fun w => ⟨(hH a).mpr (Or.inl w.1), (hH b).mpr (Or.inl w.2.1), (csB_r hK w.1 w.2.1).mp w.2.2⟩, fun w => ?_⟩)
        have ha : csH n a := ((hH a).mp w.1).elim id (fun u => absurd u r)
        have han : a < n := by unfold csH at ha; omega
        have hb := csH_b (by omega) w.2.1
        have hb' : csH n b := by
          rcases w.2.2 with u | u | u
          · rw [← u]; exact ha
          · exact absurd u q
          · exact Classical.byContradiction (fun v => by rw [out a b a0 (by omega) hb.1 (by omega) (fun x => v x.2)] at u; exact absurd u (by decide))
        exact ⟨ha, hb', (csB_r hK ha hb').mpr w.2.2⟩
  · rw [Eo _ n54]
    refine swR2_c (X := fun a b => a < n ∧ csH n b ∧ s (21 * a + b) = 0) hS.2.1 (fun a a0 _ b b0 _ => ⟨fun w => ⟨by omega, (hH b).mpr (Or.inl w.2.1), w.2.2⟩, fun w => ?_⟩)
    have hb := csH_b (by omega) w.2.1
    have r := Classical.byContradiction (fun v : ¬ (a < n ∧ csH n b) => by have := out a b a0 (by omega) hb.1 (by omega) v; omega)
    exact ⟨r.1, r.2, w.2.2⟩
  · rw [Eo _ n64]
    refine swR2_c (X := fun a b => a < n ∧ csH n b ∧ s (21 * a + b) = 2) hS.2.2.1 (fun a a0 _ b b0 _ => ⟨fun w => ⟨by omega, (hH b).mpr (Or.inl w.2.1), w.2.2⟩, fun w => ?_⟩)
    have hb := csH_b (by omega) w.2.1
    have r := Classical.byContradiction (fun v : ¬ (a < n ∧ csH n b) => by have := out a b a0 (by omega) hb.1 (by omega) v; omega)
    exact ⟨r.1, r.2, w.2.2⟩
  · have V' : csVa (n + 1) s := fun a b a0 a1 hb => by
      have hb' := csH_b (by omega) hb
      by_cases q : a < n ∧ csH n b
      · exact hV a b a0 q.1 q.2
      · rw [out a b a0 (by omega) hb'.1 (by omega) q]; decide
    rw [ecl', show n + 1 - 1 = n by omega]
    exact ⟨by omega, h0 n20 a3 cl so T' (swD_cl S D (by omega) Sd' V' (csZ_n hZ) ecl' (Eo _ n34) E3 S3) (by rw [eso, va_up_self])⟩
end

/-! ClassifySort, the component (room CS): one more axiom -/
section
variable {kd : Nat → Nat} {an : Nat → Nat} {ai : Nat → Int → Int} {al : Nat → Int → Int} {ar : Nat → Int → Option Nat} {mX29_axioms : Nat → Option Nat} {mX29_reasoner : Nat → Option Nat} {mX29_classes : Nat → Int} {mX29_things : Nat → Option Nat} {mX29_thingCount : Nat → Int} {mX29_fuel : Nat → Int} {mX29_above : Nat → Option Nat} {mX29_not : Nat → Option Nat} {mX29_open : Nat → Option Nat} {mX29_under : Nat → Option Nat} {mX29_sorted : Nat → Int} {mX29_placed : Nat → Int} {mX29_empties : Nat → Int} {mX29_asked : Nat → Int} {mX30_fired : Nat → Option Nat} {mX30_many : Nat → Int} {mX30_facts : Nat → Int} {mX30_this_0 : Nat → Option Nat} {mX61_left : Nat → Int} {mX61_right : Nat → Int} {mX61_gone : Nat → Int} {mJ1_modCount : Nat → Int} {mJ2_elementData : Nat → Option Nat} {mJ2_size : Nat → Int} {sa : Nat → Nat} {A : Nat → Nat} {L O R Th s fa pl lk me fi : Int → Int} {n m f g t x y i k c d a b q v w z : Int} {e : Nat} {fx : Int → Nat} {P Q : Int → Prop} {MC MS : Nat}
theorem csAx_up (h : csAx n L O R m) (ha : 0 ≤ a ∧ a < n) (hb : csGk n b) (hc : csGk n c) : csAx n (updI L m a) (updI O m b) (updI R m (csGl c)) (m + 1) := fun k k0 k1 => by
  by_cases q : k = m
  · rw [q, updI_s, updI_s, updI_s]
    exact ⟨ha, hb.imp id id, csGk_h hc⟩
  · rw [updI_n q, updI_n q, updI_n q]; exact h k k0 (by omega)
theorem CCS_ax67 {post : Int → (Nat → Nat) → (Nat → Nat) → (Nat → Int → Int) → (Nat → Int → Option Nat) → (Nat → Int) → (Nat → Int) → (Nat → Int) → (Nat → Int) → (Nat → Int) → (Nat → Option Nat) → (Nat → Int) → Prop} {kc ks p : Nat} {y3 : Int} (S : swF kd an mX29_axioms mX29_reasoner mX29_things mX29_above mX29_not mX29_open mX29_under mX30_fired mX30_this_0 A) (T : swA kd an ar mX61_left mX61_right mX61_gone mJ2_elementData mJ2_size (sa 0) (A 1) L O R Th n m e fx) (D : swD n f t s me mX29_classes mX29_fuel mX29_thingCount ai A L O R Th m) (hp0 : kd p = 0) (ha : 0 ≤ a ∧ a < n) (hb : csGk n b) (hc : csGk n c) (hab : ¬ b = a) (hm : m < 40) (hmo : mJ1_modCount (A 1) = m) (hy3 : mS y3 (fun k => 0 ≤ b ∧ k = b)) (hkc : kc + 2 ≤ MC ∧ ks + 100 ≤ MS)
    (h0 : ∀ kd' an' ai' ar' so le ri mo ed sz e' fx', kLe kd an kd' an' → swF kd' an' mX29_axioms mX29_reasoner mX29_things mX29_above mX29_not mX29_open mX29_under mX30_fired mX30_this_0 A → swA kd' an' ar' le ri (va_up mX61_gone p 0) ed sz (sa 0) (A 1) (updI L m a) (updI O m b) (updI R m (csGl c)) (updI Th m 1) n (m + 1) e' fx' → swD n f t (csCl n (updI L m a) (updI O m b) (updI R m (csGl c)) (updI Th m 1) (m + 1) (csFg n (updI L m a) (updI O m b) (updI R m (csGl c)) (updI Th m 1) (m + 1) m 0 s)) me mX29_classes mX29_fuel mX29_thingCount ai' A (updI L m a) (updI O m b) (updI R m (csGl c)) (updI Th m 1) (m + 1) → so (A 0) = 0 → mo (A 1) = m + 1 → post m kd' an' ai' ar' so le ri (va_up mX61_gone p 0) mo ed sz) :
    wCS_X29_axiom_67 MC MS post (A 0) c (some p) (some p) (2 ^ a.toNat) y3 (va_up kd p 3) an ai ar mX29_axioms mX29_classes mX29_above mX29_not mX29_open mX29_under mX29_sorted (va_up mX61_left p 0) (va_up mX61_right p 0) (va_up mX61_gone p 0) mJ1_modCount mJ2_elementData mJ2_size sa kc ks := by
  obtain ⟨t1, t2, t3, t4, t5, hn⟩ := id T
  obtain ⟨⟨en, ef, et⟩, hf, ht, hS, hM, hSd, hK, hV, hZ⟩ := id D
  have k1 : kLe kd an (va_up kd p 3) an := kLe.new hp0
  have S1 := S.le k1
  have fp : ∀ k, 0 ≤ k → k < m → fx k ≠ p := fun k k0 k1 z => by
    have := (t2 k k0 k1).1
    rw [z, hp0] at this
    exact absurd this (by decide)
  have kr : kc ≤ MC ∧ ks ≤ MS := ⟨by omega, by omega⟩
  have n36 : A 3 ≠ A 6 := S.ne (i := 3) (j := 6) (by decide)
  have n35 : A 3 ≠ A 5 := S.ne (i := 3) (j := 5) (by decide)
  have n45 : A 4 ≠ A 5 := S.ne (i := 4) (j := 5) (by decide)
  have n46 : A 4 ≠ A 6 := S.ne (i := 4) (j := 6) (by decide)
  unfold wCS_X29_axiom_67
  refine ⟨kr, CCS_goal hc (kOn_some ⟨va_up_self _ _ _, kr, ?_⟩)⟩
  unfold wpCS_X61_init
  intro le ele ri eri
  have t1' : lsOK (va_up kd p 3) an ar mJ2_elementData mJ2_size 8 (sa 0) (A 1) e m fx := t1.mono (by decide) k1
  have ek : ∀ k, 0 ≤ k → k < m → ekCS ((va_up kd p 3) (fx k)) := fun k k0 k1 => by rw [va_up_ne _ _ (fp k k0 k1)]; exact (t2 k k0 k1).1
  refine kOn_of S.1.1 ⟨S1.2.1.2.1, 1, 100, ⟨by omega, by omega⟩, CCS_ladd t1' (by omega) (by rw [hmo]; omega) (by decide) (by omega) ek (by rw [va_up_self]; rfl) (fun kd' an' ar' ed' e' hle hls he' hfr hed hke hks => fun hle2 => ?_)⟩
  have kr2 : kc + 1 ≤ MC ∧ ks + 100 ≤ MS := ⟨by omega, by omega⟩
  refine ⟨kr2, ?_⟩
  have S2 := S1.le hle
  have kle' : kLe kd an kd' an' := k1.tr hle
  have T2 : swA kd' an' ar' le ri (va_up mX61_gone p 0) ed' (va_up mJ2_size (A 1) (m + 1)) (sa 0) (A 1) (updI L m a) (updI O m b) (updI R m (csGl c)) (updI Th m 1) n (m + 1) e' (updI fx m p) := by
    refine ⟨hls, fun k k0 k1 => ?_, fun j k j0 j1 k0 k1 jk => ?_, csAx_up t4 ha hb hc, by omega, hn⟩
    · by_cases q : k = m
      · rw [q, updI_s, updI_s, updI_s, updI_s, updI_s, ele, eri, va_up_self, va_up_self, va_up_self]
        refine ⟨hle.kd (va_up_self _ _ _) (by decide), rfl, ⟨fun _ => by decide, fun _ => rfl⟩, mS_or (mS_one ⟨ha.1, by omega⟩) hy3, fun z => hab z.symm⟩
      · have km : k < m := by omega
        obtain ⟨a1, a2, a3, a4, a5⟩ := t2 k k0 km
        have f1 := fp k k0 km
        rw [updI_n q, updI_n q, updI_n q, updI_n q, updI_n q, ele, eri, va_up_ne _ _ f1, va_up_ne _ _ f1, va_up_ne _ _ f1, va_up_ne _ _ f1, va_up_ne _ _ f1]
        exact ⟨kle'.kd a1 (by decide), a2, a3, a4, a5⟩
    · by_cases q : j = m
      · have km : k ≠ m := fun z => jk (q.trans z.symm)
        rw [q, updI_s, updI_n km]; exact fun z => fp k k0 (by omega) z.symm
      · by_cases r : k = m
        · rw [r, updI_s, updI_n q]; exact fp j j0 (by omega)
        · rw [updI_n q, updI_n r]; exact t3 j k j0 (by omega) k0 (by omega) jk
  have hx : 0 ≤ m ∧ m < m + 1 := by omega
  have Sd' := csSd_ax (L' := updI L m a) (O' := updI O m b) (R' := updI R m (csGl c)) (Th' := updI Th m 1) hn.2 hSd t5.1 T2.2.2.2.1 (fun k k0 k1 => ⟨updI_n (by omega), updI_n (by omega), updI_n (by omega), updI_n (by omega)⟩)
  have tch : wpCS_X29_touched (fun r_49 => ∃ fu : Nat, wCS_X29_axiom_98 MC MS (fun (ai_67 : Nat → Int → Int) => (((kc + 1) ≤ MC ∧ (ks + 100) ≤ MS) ∧ wpCS_X29_close (fun (ai_68 : Nat → Int → Int) => (∀ mX29_sorted_70 : Nat → Int, mX29_sorted_70 = va_up mX29_sorted (A 0) 0 → (kOn (mX29_axioms (A 0)) (fun b_71 => kd' b_71 = 4 ∧ ((((kc + 1) ≤ MC ∧ (ks + 100) ≤ MS) ∧ wpCS_J2_size (fun (r_73 : Int) => (zR (r_73 - 1) ∧ (((kc + 1) ≤ MC ∧ (ks + 100) ≤ MS ∧ post (r_73 - 1) kd' an' ai_68 ar' mX29_sorted_70 le ri (va_up mX61_gone p 0) (va_up mJ1_modCount (A 1) (mJ1_modCount (A 1) + 1)) ed' (va_up mJ2_size (A 1) (m + 1)))))) (va_up mJ2_size (A 1) (m + 1)) b_71)))))) kd' an' ai_67 ar' mX29_axioms mX29_classes mX29_above mX29_not mX29_open mX29_under le ri (va_up mX61_gone p 0) ed' (va_up mJ2_size (A 1) (m + 1)) (A 0))) (A 0) r_49 kd' an' mX29_classes mX29_not mX29_open (kc + 1) (ks + 100) fu 0 ai) kd' an' ar' mX29_axioms mX29_classes le ri (va_up mX61_gone p 0) ed' (va_up mJ2_size (A 1) (m + 1)) (A 0) (some (updI fx m p m)) := by
    refine CCS_touched S2 T2 en hx (fun v hv => ?_)
    refine CCS_l98 S2 hn en kr2 (N := fun a b => a < n ∧ csH n b ∧ s (21 * a + b) = 0) (U := fun a b => a < n ∧ csH n b ∧ s (21 * a + b) = 2) hS.2.1 hS.2.2.1 hv (fun a1 E1 R5 R6 => ⟨kr2, ?_⟩)
    have fv : ∀ a' b', 0 ≤ a' → a' < n → csH n b' → csFg n (updI L m a) (updI O m b) (updI R m (csGl c)) (updI Th m 1) (m + 1) m 0 s (21 * a' + b') = pif (csTc (updI L m a) (updI O m b) (updI R m (csGl c)) (updI Th m 1) (m + 1) a' m ∧ (s (21 * a' + b') = 0 ∨ s (21 * a' + b') = 2)) 3 (s (21 * a' + b')) := fun a' b' a0 a1 hb => csFg_e hn.2 ⟨a0, a1⟩ hb
    have fw : ∀ y, csFg n (updI L m a) (updI O m b) (updI R m (csGl c)) (updI Th m 1) (m + 1) m 0 s y = 1 ↔ s y = 1 := fun y => by
      rcases csFg_v (n := n) (L := updI L m a) (O := updI O m b) (R := updI R m (csGl c)) (Th := updI Th m 1) (m := m + 1) (x := m) (s := s) (one := 0) y with r | r <;> omega
    refine CCS_close S2 T2 en (s := csFg n (updI L m a) (updI O m b) (updI R m (csGl c)) (updI Th m 1) (m + 1) m 0 s) ?_ (swR2_c R5 (fun a' a0 _ b' _ _ => ⟨fun w => ?_, fun w => ?_⟩)) (swR2_c R6 (fun a' a0 _ b' _ _ => ⟨fun w => ?_, fun w => ?_⟩)) (csSd_ok Sd') (fun a2 E2 S3 => ?_)
    · rw [E1 _ (fun q => q.elim n45 n46)]
      exact fun a' a0 a1' => mS_c (hS.1 a' a0 a1') (fun b' _ _ => ⟨fun w => ⟨w.1, w.2.1, by rw [fw]; exact (csB_r hK w.1 w.2.1).mp w.2.2⟩, fun w => ⟨w.1, w.2.1, by have w2 := w.2.2; rw [fw] at w2; exact (csB_r hK w.1 w.2.1).mpr w2⟩⟩)
    · refine ⟨w.1.1, w.1.2.1, ?_⟩
      rw [fv a' b' a0 w.1.1 w.1.2.1, pif_f (fun u => w.2 ⟨w.1.1, u.1⟩)]; exact w.1.2.2
    · have w2 := w.2.2
      rw [fv a' b' a0 w.1 w.2.1] at w2
      by_cases r : csTc (updI L m a) (updI O m b) (updI R m (csGl c)) (updI Th m 1) (m + 1) a' m ∧ (s (21 * a' + b') = 0 ∨ s (21 * a' + b') = 2)
      · rw [pif_t r] at w2; omega
      · rw [pif_f r] at w2; exact ⟨⟨w.1, w.2.1, w2⟩, fun q => r ⟨q.2, Or.inl w2⟩⟩
    · refine ⟨w.1.1, w.1.2.1, ?_⟩
      rw [fv a' b' a0 w.1.1 w.1.2.1, pif_f (fun u => w.2 ⟨w.1.1, u.1⟩)]; exact w.1.2.2
    · have w2 := w.2.2
      rw [fv a' b' a0 w.1 w.2.1] at w2
      by_cases r : csTc (updI L m a) (updI O m b) (updI R m (csGl c)) (updI Th m 1) (m + 1) a' m ∧ (s (21 * a' + b') = 0 ∨ s (21 * a' + b') = 2)
      · rw [pif_t r] at w2; omega
      · rw [pif_f r] at w2; exact ⟨⟨w.1, w.2.1, w2⟩, fun q => r ⟨q.2, Or.inr w2⟩⟩
    · have D' := swD_cl S D hn.2 Sd' (csVa_fg hV) (csZ_fg hZ) en (E1 _ (fun q => q.elim n35 n36)) E2 S3
      intro so eso
      refine kOn_of S.1.1 ⟨S2.2.1.2.1, kr2, ?_⟩
      unfold wpCS_J2_size
      rw [va_up_self]
      dsimp only
      rw [show m + 1 - 1 = m by omega]
      exact ⟨by omega, kr2.1, kr2.2, h0 kd' an' a2 ar' so le ri _ ed' _ e' (updI fx m p) kle' S2 T2 D' (by rw [eso, va_up_self]) (by rw [va_up_self, hmo])⟩
  rw [updI_s] at tch
  exact tch
theorem CCS_axiom {post : Int → (Nat → Nat) → (Nat → Nat) → (Nat → Int → Int) → (Nat → Int → Option Nat) → (Nat → Int) → (Nat → Int) → (Nat → Int) → (Nat → Int) → (Nat → Int) → (Nat → Option Nat) → (Nat → Int) → Prop} {x1 x2 x3 : Int} (S : swF kd an mX29_axioms mX29_reasoner mX29_things mX29_above mX29_not mX29_open mX29_under mX30_fired mX30_this_0 A) (T : swA kd an ar mX61_left mX61_right mX61_gone mJ2_elementData mJ2_size (sa 0) (A 1) L O R Th n m e fx) (D : swD n f t s me mX29_classes mX29_fuel mX29_thingCount ai A L O R Th m) (hmo : mJ1_modCount (A 1) = m) (hMC : 3 ≤ MC ∧ 103 ≤ MS)
    (h1 : ¬ ((0 ≤ x1 ∧ x1 < n) ∧ csGk n x2 ∧ csGk n x3) → post (-1) kd an ai ar mX29_sorted mX61_left mX61_right mX61_gone mJ1_modCount mJ2_elementData mJ2_size) (h2 : (0 ≤ x1 ∧ x1 < n) ∧ csGk n x2 ∧ csGk n x3 → x2 = x1 → post (-2) kd an ai ar mX29_sorted mX61_left mX61_right mX61_gone mJ1_modCount mJ2_elementData mJ2_size) (h4 : (0 ≤ x1 ∧ x1 < n) ∧ csGk n x2 ∧ csGk n x3 → x2 ≠ x1 → m = 40 → post (-4) kd an ai ar mX29_sorted mX61_left mX61_right mX61_gone mJ1_modCount mJ2_elementData mJ2_size)
    (h0 : (0 ≤ x1 ∧ x1 < n) ∧ csGk n x2 ∧ csGk n x3 → x2 ≠ x1 → m < 40 → ∀ kd' an' ai' ar' so le ri go mo ed sz e' fx', kLe kd an kd' an' → swF kd' an' mX29_axioms mX29_reasoner mX29_things mX29_above mX29_not mX29_open mX29_under mX30_fired mX30_this_0 A → swA kd' an' ar' le ri go ed sz (sa 0) (A 1) (updI L m x1) (updI O m x2) (updI R m (csGl x3)) (updI Th m 1) n (m + 1) e' fx' → swD n f t (csCl n (updI L m x1) (updI O m x2) (updI R m (csGl x3)) (updI Th m 1) (m + 1) (csFg n (updI L m x1) (updI O m x2) (updI R m (csGl x3)) (updI Th m 1) (m + 1) m 0 s)) me mX29_classes mX29_fuel mX29_thingCount ai' A (updI L m x1) (updI O m x2) (updI R m (csGl x3)) (updI Th m 1) (m + 1) → so (A 0) = 0 → mo (A 1) = m + 1 → post m kd' an' ai' ar' so le ri go mo ed sz) : wpCS_X29_axiom MC MS post kd an ai ar mX29_axioms mX29_classes mX29_above mX29_not mX29_open mX29_under mX29_sorted mX61_left mX61_right mX61_gone mJ1_modCount mJ2_elementData mJ2_size sa (A 0) x1 x2 x3 := by
  obtain ⟨t1, t2, t3, t4, t5, hn⟩ := id T
  have en := D.1.1
  have zz : 0 ≤ MC ∧ 0 ≤ MS := ⟨Nat.zero_le _, Nat.zero_le _⟩
  unfold wpCS_X29_axiom wpCS_J2_size
  refine ⟨zz, CCS_isClassB en (fun w1 => ⟨zz, CCS_isGoalB en (fun w2 => ⟨zz, CCS_isGoalB en (fun w3 => ⟨fun q => ⟨zz.1, zz.2, h2 ⟨w1, w2, w3⟩ q.symm⟩, fun q => kOn_of S.1.1 ⟨S.2.1.2.1, zz, ?_⟩⟩) (fun w3 => ⟨zz.1, zz.2, h1 (fun q => w3 q.2.2)⟩)⟩) (fun w2 => ⟨zz.1, zz.2, h1 (fun q => w2 q.2.1)⟩)⟩) (fun w1 => ⟨zz.1, zz.2, h1 (fun q => w1 q.1)⟩)⟩
  rw [t1.2.1]
  refine ⟨fun m40 => ⟨zz.1, zz.2, h4 ⟨w1, w2, w3⟩ (fun z => q z.symm) m40⟩, fun m40 => ⟨⟨by omega, by omega⟩, fun p hp0 le ele ri eri go ego => ⟨⟨w1.1, by omega⟩, fun b0 => ?_, fun b0 => ?_⟩⟩⟩
  · subst ele eri ego
    have hb : 0 ≤ x2 ∧ x2 < n := by unfold csGk at w2; omega
    refine ⟨⟨b0, by omega⟩, CCS_ax67 S T D hp0 w1 w2 w3 (fun z => q z.symm) (by omega) hmo (mS_c (mS_one ⟨b0, by omega⟩) (fun k _ _ => ⟨fun u => ⟨b0, u⟩, fun u => u.2⟩)) ⟨by omega, by omega⟩ (fun kd' an' ai' ar' so le ri mo ed sz e' fx' => h0 ⟨w1, w2, w3⟩ (fun z => q z.symm) (by omega) kd' an' ai' ar' so le ri _ mo ed sz e' fx')⟩
  · subst ele eri ego
    exact CCS_ax67 S T D hp0 w1 w2 w3 (fun z => q z.symm) (by omega) hmo (mS_c mS_0 (fun k _ _ => ⟨fun u => u.elim, fun u => absurd u.1 b0⟩)) ⟨by omega, by omega⟩ (fun kd' an' ai' ar' so le ri mo ed sz e' fx' => h0 ⟨w1, w2, w3⟩ (fun z => q z.symm) (by omega) kd' an' ai' ar' so le ri _ mo ed sz e' fx')
end

/-! ClassifySort: a trace is told alike -/
section
variable {n m f g x y i k c d a b q : Int} {L O R Th s fa fb pl me fi mk ne : Int → Int} {l : List Int} {p r : Int → Prop}
theorem csKt_c {N : Nat} (e : ∀ k : Int, 0 ≤ k → k < N → (p k ↔ r k)) : csKt p N i = csKt r N i := by
  have ce : ∀ d : Int, 0 ≤ d → d ≤ N → cntI p d.toNat = cntI r d.toNat := fun d d0 d1 => cntI_c (fun k u v => e k u (by omega))
  have S := fstI_s (csKp r i) N
  have : fstI (csKp p i) N = fstI (csKp r i) N := fstI_u S.1.1 S.1.2 (fun h => by
    have K := S.2.1 h
    exact ⟨(e _ S.1.1 h).mpr K.1, (ce _ S.1.1 S.1.2).trans K.2⟩) (fun j a b w => S.2.2 j a b ⟨(e j a (by omega)).mp w.1, (ce j a (by omega)).symm.trans w.2⟩)
  unfold csKt
  rw [this]
theorem csTa_tr (hm : 0 ≤ m ∧ m ≤ 40) (hn : 0 ≤ n ∧ n ≤ 20) (hA : csAx n L O R m) (e : (csAn L O R Th m f g (csOne a)).2.2 = l) (h0 : ¬ l = []) (hq : vtQ fi 0 l) (hk : csMk R mk l) (hb : ∀ k, k ∈ l → 0 ≤ k ∧ k < m) (hz : ∀ j, 0 ≤ j → j < 40 → ne j = 0) :
    csTa (csNe L O mk fi l.length (updI ne (fi ((l.length : Int) - 1)) 1)) fi l.length i = pif (csTr L O R l i = -6) (-6) (l.getD (csTr L O R l i).toNat 0) := by
  have hl : 0 < l.length := List.length_pos_iff.mpr h0
  have el : ∀ j : Nat, j < l.length → fi j = l.getD j 0 := fun j hj => by have := hq j hj; rw [Int.zero_add] at this; exact this
  have hd : csDj R l := csRun_dj hm.1 22 (csOne a) [] _ _ l (fun j k hj => absurd hj List.not_mem_nil) (fun k hk => absurd hk List.not_mem_nil) (by rw [← e]; rfl)
  have ho : csOd L O R l := csRun_od hm.1 hA hn.2 22 (csOne a) [] _ _ l (fun i j _ hj => absurd hj (Nat.not_lt_zero j)) (fun k hk => absurd hk List.not_mem_nil) (by rw [← e]; rfl)
  have ll : fi ((l.length : Int) - 1) = l.getD (l.length - 1) 0 := by
    have := el (l.length - 1) (by omega)
    rw [show ((l.length - 1 : Nat) : Int) = (l.length : Int) - 1 by omega] at this
    exact this
  have key := csWp_ne (fi := fi) hA hd ho hk hb hq hn l.length (updI ne (fi ((l.length : Int) - 1)) 1) (fun c => c = R (l.getD (l.length - 1) 0)) (fun _ => False) (Nat.le_refl _) (fun j hj => by
    have mj := getD_m hj
    have ml := getD_m (l := l) (i := l.length - 1) (by omega)
    rw [ll, el j hj]
    by_cases z : l.getD j 0 = l.getD (l.length - 1) 0
    · rw [z, updI_s]; exact ⟨fun _ => rfl, fun _ => by decide⟩
    · rw [updI_n z, hz _ (hb _ mj).1 (by have := (hb _ mj).2; omega)]
      exact ⟨fun w => absurd rfl w, fun w => absurd (hd _ _ mj ml w) z⟩) (fun j j0 j1 => by omega) (fun j _ w => w)
  have ck : csKt (fun t => ¬ csNe L O mk fi l.length (updI ne (fi ((l.length : Int) - 1)) 1) (fi t) = 0) l.length i = csTr L O R l i := by
    unfold csTr
    rw [← csWp_c (fi := fi) l.length _ _ (fun j hj => by rw [el j hj]; rfl)]
    refine csKt_c (fun k k0 k1 => ?_)
    have := key k.toNat (by omega)
    rw [show ((k.toNat : Nat) : Int) = k by omega] at this
    exact this
  unfold csTa
  rw [ck]
  by_cases z : csTr L O R l i = -6
  · rw [pif_t z, pif_t z]
  · rw [pif_f z, pif_f z]
    have kb : 0 ≤ csTr L O R l i ∧ csTr L O R l i < l.length := by
      unfold csTr csKt at z ⊢
      split at z
      · exact absurd rfl z
      · rename_i h
        rw [if_neg h]
        have F := (fstI_s (csKp (csWp L O R (fun j => l.getD j.toNat 0) l.length (fun c => c = R (l.getD (l.length - 1) 0)) (fun _ => False)) i) l.length).1
        exact ⟨F.1, by omega⟩
    have := el (csTr L O R l i).toNat (by omega)
    rw [show (((csTr L O R l i).toNat : Nat) : Int) = csTr L O R l i by omega] at this
    exact this
end
