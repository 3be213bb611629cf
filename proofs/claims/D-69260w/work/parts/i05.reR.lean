/-! RuleEngine, the reference (X55): facts, rules, what is bound and safe -/
def reIt (v : Int) : Prop := -6 ≤ v ∧ v < 32
/-- an item is a number, or stands in a plain part -/
def reBd (ln pt : Int → Int) (r v : Int) : Prop := 0 ≤ v ∨ ∃ k, (0 ≤ k ∧ k < ln r) ∧ pt (20 * r + 4 * k) = 0 ∧ (pt (20 * r + 4 * k + 2) = v ∨ pt (20 * r + 4 * k + 3) = v)
/-- a rule is safe -/
def reSf (hd kd fo ln pt : Int → Int) (r : Int) : Prop := reBd ln pt r (hd (3 * r + 1)) ∧ (kd r < 0 → reBd ln pt r (hd (3 * r + 2))) ∧ (¬ kd r < 0 → reBd ln pt r (fo r)) ∧ ∀ k, 0 ≤ k → k < ln r → ¬ pt (20 * r + 4 * k) = 0 → reBd ln pt r (pt (20 * r + 4 * k + 2)) ∧ reBd ln pt r (pt (20 * r + 4 * k + 3))
/-- what rules are made of -/
def reI (hd kd fo ln pt : Int → Int) (n : Int) : Prop := (0 ≤ n ∧ n ≤ 16) ∧ ∀ r, 0 ≤ r → r < n → ((0 ≤ hd (3 * r) ∧ hd (3 * r) < 16) ∧ reIt (hd (3 * r + 1)) ∧ reIt (hd (3 * r + 2))) ∧ ((-1 ≤ kd r ∧ kd r ≤ 3) ∧ (¬ kd r < 0 → -6 ≤ fo r ∧ fo r ≤ -1)) ∧ (0 ≤ ln r ∧ ln r ≤ 5) ∧ ∀ k, 0 ≤ k → k < ln r → (0 ≤ pt (20 * r + 4 * k) ∧ pt (20 * r + 4 * k) ≤ 2) ∧ (0 ≤ pt (20 * r + 4 * k + 1) ∧ pt (20 * r + 4 * k + 1) < 16) ∧ reIt (pt (20 * r + 4 * k + 2)) ∧ reIt (pt (20 * r + 4 * k + 3))
def reFc (n a b : Int) : Prop := (0 ≤ n ∧ n < 16) ∧ (0 ≤ a ∧ a < 32) ∧ 0 ≤ b ∧ b < 32
def reCd (n a b : Int) : Int := 1024 * n + 32 * a + b
/-- one rule left out -/
def reSh (f : Int → Int) (w r n : Int) : Int → Int := fun i => if w * r ≤ i ∧ i < w * n then f (i + w) else f i
section
variable {hd kd fo ln pt sd : Int → Int} {n r k v a b c x y kn w : Int} {A B : Prop} {post : Int → Prop}
theorem T55_isNameB (h1 : 0 ≤ n → n < 16 → B) (h0 : ¬ (0 ≤ n ∧ n < 16) → A) : wpX55_isName (fun r => (r = 0 → A) ∧ (¬ r = 0 → B)) n := by
  unfold wpX55_isName
  exact ⟨fun w => ⟨fun _ => h0 (by omega), fun z => absurd rfl z⟩, fun w => ⟨fun w2 => ⟨fun _ => h0 (by omega), fun z => absurd rfl z⟩, fun w2 => ⟨fun z => absurd z (by decide), fun _ => h1 (by omega) (by omega)⟩⟩⟩
theorem T55_isNumberB (h1 : 0 ≤ n → n < 32 → B) (h0 : ¬ (0 ≤ n ∧ n < 32) → A) : wpX55_isNumber (fun r => (r = 0 → A) ∧ (¬ r = 0 → B)) n := by
  unfold wpX55_isNumber
  exact ⟨fun w => ⟨fun _ => h0 (by omega), fun z => absurd rfl z⟩, fun w => ⟨fun w2 => ⟨fun _ => h0 (by omega), fun z => absurd rfl z⟩, fun w2 => ⟨fun z => absurd z (by decide), fun _ => h1 (by omega) (by omega)⟩⟩⟩
theorem T55_isItemB (h1 : reIt v → B) (h0 : ¬ reIt v → A) : wpX55_isItem (fun r => (r = 0 → A) ∧ (¬ r = 0 → B)) v := by
  unfold wpX55_isItem
  unfold reIt at h1 h0
  exact ⟨fun w => ⟨fun _ => h0 (by omega), fun z => absurd rfl z⟩, fun w => ⟨fun w2 => ⟨fun _ => h0 (by omega), fun z => absurd rfl z⟩, fun w2 => ⟨fun z => absurd z (by decide), fun _ => h1 (by omega)⟩⟩⟩
theorem T55_isFactB (h1 : reFc n a b → B) (h0 : ¬ reFc n a b → A) : wpX55_isFact (fun r => (r = 0 → A) ∧ (¬ r = 0 → B)) n a b := by
  unfold wpX55_isFact
  exact T55_isNameB (fun n0 n1 => T55_isNumberB (fun a0 a1 => T55_isNumberB (fun b0 b1 => ⟨fun z => absurd z (by decide), fun _ => h1 ⟨⟨n0, n1⟩, ⟨a0, a1⟩, b0, b1⟩⟩) (fun w => ⟨fun _ => h0 (fun z => w z.2.2), fun z => absurd rfl z⟩)) (fun w => ⟨fun _ => h0 (fun z => w z.2.1), fun z => absurd rfl z⟩)) (fun w => ⟨fun _ => h0 (fun z => w z.1), fun z => absurd rfl z⟩)
theorem T55_code (h : reFc n a b) (hp : post (reCd n a b)) : wpX55_code post n a b := by
  unfold wpX55_code
  obtain ⟨h1, h2, h3⟩ := h
  exact ⟨by omega, hp⟩
theorem reCd_b (h : reFc n a b) : 0 ≤ reCd n a b ∧ reCd n a b < 16384 := by
  unfold reCd
  obtain ⟨h1, h2, h3⟩ := h
  omega
theorem T55_fact {post : Int → (Int → Int) → Int → Prop} (h1 : ¬ reFc n a b → post (-1) sd kn) (h2 : reFc n a b → ¬ sd (reCd n a b) = 0 → post 0 sd kn) (h3 : reFc n a b → sd (reCd n a b) = 0 → post 1 (updI sd (reCd n a b) 1) 0) : wpX55_fact post sd kn n a b := by
  unfold wpX55_fact
  refine T55_isFactB (fun f => T55_code f ⟨reCd_b f, fun z => T55_code f ⟨reCd_b f, fun s es => by rw [es]; exact h3 f z⟩, fun z => h2 f z⟩) h1
theorem T55_remove {post : Int → (Int → Int) → Int → Prop} (h1 : ¬ reFc n a b → post (-1) sd kn) (h2 : reFc n a b → sd (reCd n a b) = 0 → post 0 sd kn) (h3 : reFc n a b → ¬ sd (reCd n a b) = 0 → post 1 (updI sd (reCd n a b) 0) 0) : wpX55_remove post sd kn n a b := by
  unfold wpX55_remove
  refine T55_isFactB (fun f => T55_code f ⟨reCd_b f, fun z => h2 f z, fun z => T55_code f ⟨reCd_b f, fun s es => by rw [es]; exact h3 f z⟩⟩) h1
theorem T55_isBoundB (hr : 0 ≤ r ∧ r < 16) (hl : 0 ≤ ln r ∧ ln r ≤ 5) (h1 : reBd ln pt r v → B) (h0 : ¬ reBd ln pt r v → A) : wpX55_isBound (fun x => (x = 0 → A) ∧ (¬ x = 0 → B)) ln pt r v := by
  have loop : ∀ (s : Int), ((s = 0 ∧ ¬ 0 ≤ v) ∨ (s = 1 ∧ 0 ≤ v)) → ∃ fu : Nat, wX55_isBound_13 (fun (x3_35 : Int) => (x3_35 = 0 ∨ x3_35 = 1) ∧ ((x3_35 = 0 → A) ∧ (¬ x3_35 = 0 → B))) r v ln pt fu s 0 := fun s hs => by
    refine wl2 (fun f s k => wX55_isBound_13 _ r v ln pt f s k) (fun s k => (0 ≤ k ∧ k ≤ ln r) ∧ ((s = 0 ∧ ¬ 0 ≤ v ∧ ∀ j, 0 ≤ j → j < k → ¬ (pt (20 * r + 4 * j) = 0 ∧ (pt (20 * r + 4 * j + 2) = v ∨ pt (20 * r + 4 * j + 3) = v))) ∨ (s = 1 ∧ reBd ln pt r v))) (fun _ k => (ln r - k).toNat) ?_ s 0 ⟨by omega, hs.elim (fun e => Or.inl ⟨e.1, e.2, fun j j0 j1 => by omega⟩) (fun e => Or.inr ⟨e.1, Or.inl e.2⟩)⟩
    rintro s k ⟨hk, hs⟩ f ih
    rw [wX55_isBound_13]
    have no : s = 0 → ¬ (pt (20 * r + 4 * k) = 0 ∧ (pt (20 * r + 4 * k + 2) = v ∨ pt (20 * r + 4 * k + 3) = v)) → k < ln r → wX55_isBound_13 (fun (x3_35 : Int) => (x3_35 = 0 ∨ x3_35 = 1) ∧ ((x3_35 = 0 → A) ∧ (¬ x3_35 = 0 → B))) r v ln pt f 0 (k + 1) := fun e w kl => by
      refine ih 0 (k + 1) ⟨by omega, ?_⟩ (by omega)
      rcases hs with ⟨_, a, c⟩ | ⟨e2, _⟩
      · refine Or.inl ⟨rfl, a, fun j j0 j1 => ?_⟩
        by_cases z : j = k
        · rw [z]; exact w
        · exact c j j0 (by omega)
      · omega
    have yes : reBd ln pt r v → k < ln r → wX55_isBound_13 (fun (x3_35 : Int) => (x3_35 = 0 ∨ x3_35 = 1) ∧ ((x3_35 = 0 → A) ∧ (¬ x3_35 = 0 → B))) r v ln pt f 1 (k + 1) := fun w kl => ih 1 (k + 1) ⟨by omega, Or.inr ⟨rfl, w⟩⟩ (by omega)
    refine ⟨hr, fun w => ?_, fun w => ⟨by omega, fun at_ ea => ?_⟩⟩
    · rcases hs with ⟨e, nv, c⟩ | ⟨e, y⟩
      · refine ⟨Or.inl e, fun _ => h0 (fun z => ?_), fun z => absurd e z⟩
        rcases z with z | ⟨j, hj, z1, z2⟩
        · exact nv z
        · exact c j hj.1 (by omega) ⟨z1, z2⟩
      · exact ⟨Or.inr e, fun z => by omega, fun _ => h1 y⟩
    · subst ea
      refine ⟨fun s0 => ⟨by omega, fun p0 => ⟨by omega, fun q2 => ⟨by omega, fun _ e => by rw [e]; exact yes (Or.inr ⟨k, by omega, p0, Or.inl q2⟩) (by omega)⟩, fun q2 => ⟨by omega, fun q3 => ⟨by omega, fun _ e => by rw [e]; exact yes (Or.inr ⟨k, by omega, p0, Or.inr q3⟩) (by omega)⟩, fun q3 => ⟨by omega, fun _ e => by rw [e]; exact no s0 (fun z => z.2.elim q2 q3) (by omega)⟩⟩⟩, fun p0 => ⟨by omega, fun _ e => by rw [e]; exact no s0 (fun z => p0 z.1) (by omega)⟩⟩, fun s1 => ⟨by omega, fun _ e => ?_⟩⟩
      rw [e]
      rcases hs with ⟨e2, _⟩ | ⟨_, y⟩
      · exact absurd e2 s1
      · exact yes y (by omega)
  unfold wpX55_isBound
  exact ⟨fun w => loop 0 (Or.inl ⟨rfl, by omega⟩), fun w => loop 1 (Or.inr ⟨rfl, by omega⟩)⟩
theorem T55_isSafeB (I : reI hd kd fo ln pt n) (hr : 0 ≤ r ∧ r < n) (h1 : reSf hd kd fo ln pt r → B) (h0 : ¬ reSf hd kd fo ln pt r → A) : wpX55_isSafe (fun x => (x = 0 → A) ∧ (¬ x = 0 → B)) hd kd fo ln pt r := by
  obtain ⟨hn, I⟩ := I
  obtain ⟨_, _, hl, hp⟩ := I r hr.1 hr.2
  have hr2 : 0 ≤ r ∧ r < 16 := by omega
  have loop : ∀ (s : Int), ((s = 0 ∧ ¬ reSf hd kd fo ln pt r) ∨ (s = 1 ∧ (reBd ln pt r (hd (3 * r + 1)) ∧ (kd r < 0 → reBd ln pt r (hd (3 * r + 2))) ∧ (¬ kd r < 0 → reBd ln pt r (fo r))))) → ∃ fu : Nat, wX55_isSafe_70 (fun (x2_41 : Int) => (x2_41 = 0 ∨ x2_41 = 1) ∧ ((x2_41 = 0 → A) ∧ (¬ x2_41 = 0 → B))) r ln pt fu s 0 := fun s hs => by
    refine wl2 (fun f s k => wX55_isSafe_70 _ r ln pt f s k) (fun s k => (0 ≤ k ∧ k ≤ ln r) ∧ ((s = 0 ∧ ¬ reSf hd kd fo ln pt r) ∨ (s = 1 ∧ (reBd ln pt r (hd (3 * r + 1)) ∧ (kd r < 0 → reBd ln pt r (hd (3 * r + 2))) ∧ (¬ kd r < 0 → reBd ln pt r (fo r))) ∧ ∀ j, 0 ≤ j → j < k → ¬ pt (20 * r + 4 * j) = 0 → reBd ln pt r (pt (20 * r + 4 * j + 2)) ∧ reBd ln pt r (pt (20 * r + 4 * j + 3))))) (fun _ k => (ln r - k).toNat) ?_ s 0 ⟨by omega, hs.elim Or.inl (fun e => Or.inr ⟨e.1, e.2, fun j j0 j1 => by omega⟩)⟩
    rintro s k ⟨hk, hs⟩ f ih
    rw [wX55_isSafe_70]
    refine ⟨hr2, fun w => ?_, fun w => ⟨fun s0 => ?_, fun s1 => ⟨by omega, fun at_ ea => ?_⟩⟩⟩
    · rcases hs with ⟨e, y⟩ | ⟨e, y, c⟩
      · exact ⟨Or.inl e, fun _ => h0 y, fun z => absurd e z⟩
      · exact ⟨Or.inr e, fun z => by omega, fun _ => h1 ⟨y.1, y.2.1, y.2.2, fun j j0 j1 => c j j0 (by omega)⟩⟩
    · rcases hs with ⟨e, y⟩ | ⟨e, _⟩
      · exact ⟨Or.inl e, fun _ => h0 y, fun z => absurd e z⟩
      · omega
    · subst ea
      rcases hs with ⟨e, _⟩ | ⟨e, y, c⟩
      · exact absurd e s1
      have bad : ¬ (¬ pt (20 * r + 4 * k) = 0 → reBd ln pt r (pt (20 * r + 4 * k + 2)) ∧ reBd ln pt r (pt (20 * r + 4 * k + 3))) → wX55_isSafe_70 (fun (x2_41 : Int) => (x2_41 = 0 ∨ x2_41 = 1) ∧ ((x2_41 = 0 → A) ∧ (¬ x2_41 = 0 → B))) r ln pt f 0 (k + 1) := fun z => ih 0 (k + 1) ⟨by omega, Or.inl ⟨rfl, fun q => z (q.2.2.2 k hk.1 (by omega))⟩⟩ (by omega)
      have good : (¬ pt (20 * r + 4 * k) = 0 → reBd ln pt r (pt (20 * r + 4 * k + 2)) ∧ reBd ln pt r (pt (20 * r + 4 * k + 3))) → wX55_isSafe_70 (fun (x2_41 : Int) => (x2_41 = 0 ∨ x2_41 = 1) ∧ ((x2_41 = 0 → A) ∧ (¬ x2_41 = 0 → B))) r ln pt f 1 (k + 1) := fun z => by
        refine ih 1 (k + 1) ⟨by omega, Or.inr ⟨rfl, y, fun j j0 j1 => ?_⟩⟩ (by omega)
        by_cases q : j = k
        · rw [q]; exact z
        · exact c j j0 (by omega)
      refine ⟨by omega, fun p0 => ⟨by omega, fun _ e2 => by rw [e2]; exact good (fun z => absurd p0 z)⟩, fun p0 => ⟨by omega, T55_isBoundB hr2 hl (fun q2 => ⟨by omega, T55_isBoundB hr2 hl (fun q3 => ⟨by omega, fun _ e2 => by rw [e2]; exact good (fun _ => ⟨q2, q3⟩)⟩) (fun q3 => ⟨by omega, fun _ e2 => by rw [e2]; exact bad (fun z => q3 (z p0).2)⟩)⟩) (fun q2 => ⟨by omega, fun _ e2 => by rw [e2]; exact bad (fun z => q2 (z p0).1)⟩)⟩⟩
  unfold wpX55_isSafe
  refine ⟨by omega, T55_isBoundB hr2 hl (fun q1 => ⟨hr2, fun k0 => ⟨by omega, T55_isBoundB hr2 hl (fun q2 => loop 1 (Or.inr ⟨rfl, q1, fun _ => q2, fun z => absurd k0 z⟩)) (fun q2 => loop 0 (Or.inl ⟨rfl, fun z => q2 (z.2.1 k0)⟩))⟩, fun k0 => T55_isBoundB hr2 hl (fun q2 => loop 1 (Or.inr ⟨rfl, q1, fun z => absurd z k0, fun _ => q2⟩)) (fun q2 => loop 0 (Or.inl ⟨rfl, fun z => q2 (z.2.2.1 k0)⟩))⟩) (fun q1 => loop 0 (Or.inl ⟨rfl, fun z => q1 z.1⟩))⟩
theorem T55_isRuleB (h1 : 0 ≤ r → r < n → B) (h0 : ¬ (0 ≤ r ∧ r < n) → A) : wpX55_isRule (fun x => (x = 0 → A) ∧ (¬ x = 0 → B)) n r := by
  unfold wpX55_isRule
  exact ⟨fun w => ⟨fun _ => h0 (by omega), fun z => absurd rfl z⟩, fun w => ⟨fun w2 => ⟨fun _ => h0 (by omega), fun z => absurd rfl z⟩, fun w2 => ⟨fun z => absurd z (by decide), fun _ => h1 (by omega) (by omega)⟩⟩⟩
theorem T55_rule {post : Int → (Int → Int) → (Int → Int) → (Int → Int) → (Int → Int) → Int → Int → Prop} (hn : 0 ≤ n ∧ n ≤ 16) (h1 : ¬ ((0 ≤ a ∧ a < 16) ∧ reIt x ∧ reIt y) → post (-1) hd kd fo ln n kn) (h3 : ((0 ≤ a ∧ a < 16) ∧ reIt x ∧ reIt y) → n = 16 → post (-3) hd kd fo ln n kn) (h0 : ((0 ≤ a ∧ a < 16) ∧ reIt x ∧ reIt y) → n < 16 → post n (updI (updI (updI hd (3 * n) a) (3 * n + 1) x) (3 * n + 2) y) (updI kd n (-1)) (updI fo n 0) (updI ln n 0) (n + 1) 0) : wpX55_rule post hd kd fo ln n kn a x y := by
  unfold wpX55_rule
  refine T55_isNameB (fun a0 a1 => T55_isItemB (fun ix => T55_isItemB (fun iy => ⟨fun e => h3 ⟨⟨a0, a1⟩, ix, iy⟩ e, fun ne => ⟨by omega, fun f1 e1 => ⟨by omega, fun f2 e2 => ⟨by omega, fun f3 e3 => ⟨by omega, fun f4 e4 f5 e5 f6 e6 => ⟨by omega, fun m em => ⟨by omega, ?_⟩⟩⟩⟩⟩⟩⟩) (fun w => h1 (fun z => w z.2.2))) (fun w => h1 (fun z => w z.2.1))) (fun w => h1 (fun z => w z.1))
  rw [em, show n + 1 - 1 = n by omega, e3, e2, e1, e4, e5, e6]
  exact h0 ⟨⟨a0, a1⟩, ix, iy⟩ (by omega)
theorem T55_part {post : Int → (Int → Int) → (Int → Int) → Int → Prop} {s : Int} (hr : 0 ≤ r ∧ r < 16) (hl : 0 ≤ ln r ∧ ln r ≤ 5) (h3 : ln r = 5 → post (-3) ln pt kn) (h0 : ln r < 5 → post (ln r + 1) (updI ln r (ln r + 1)) (updI (updI (updI (updI pt (20 * r + 4 * ln r) s) (20 * r + 4 * ln r + 1) a) (20 * r + 4 * ln r + 2) x) (20 * r + 4 * ln r + 3) y) 0) : wpX55_part post ln pt kn r s a x y := by
  unfold wpX55_part
  refine ⟨hr, h3, fun ne => ⟨by omega, fun at_ ea => ?_⟩⟩
  subst ea
  refine ⟨by omega, fun f1 e1 => ⟨by omega, fun f2 e2 => ⟨by omega, fun f3 e3 => ⟨by omega, fun f4 e4 => ⟨by omega, fun v ev l el => ?_⟩⟩⟩⟩⟩
  rw [el, ev, updI_s, e4, e3, e2, e1]
  exact h0 (by omega)
theorem T55_body {post : Int → (Int → Int) → (Int → Int) → Int → Prop} (I : reI hd kd fo ln pt n) (h1 : ¬ ((0 ≤ r ∧ r < n) ∧ (0 ≤ a ∧ a < 16) ∧ reIt x ∧ reIt y) → post (-1) ln pt kn) (h3 : ((0 ≤ r ∧ r < n) ∧ (0 ≤ a ∧ a < 16) ∧ reIt x ∧ reIt y) → ln r = 5 → post (-3) ln pt kn) (h0 : ((0 ≤ r ∧ r < n) ∧ (0 ≤ a ∧ a < 16) ∧ reIt x ∧ reIt y) → ln r < 5 → post (ln r + 1) (updI ln r (ln r + 1)) (updI (updI (updI (updI pt (20 * r + 4 * ln r) (if c = 0 then 0 else 1)) (20 * r + 4 * ln r + 1) a) (20 * r + 4 * ln r + 2) x) (20 * r + 4 * ln r + 3) y) 0) : wpX55_body post ln pt n kn r a x y c := by
  unfold wpX55_body
  refine T55_isRuleB (fun r0 r1 => T55_isNameB (fun a0 a1 => T55_isItemB (fun ix => T55_isItemB (fun iy => ?_) (fun w => h1 (fun z => w z.2.2.2))) (fun w => h1 (fun z => w z.2.2.1))) (fun w => h1 (fun z => w z.2.1))) (fun w => h1 (fun z => w z.1))
  have G : ((0 ≤ r ∧ r < n) ∧ (0 ≤ a ∧ a < 16) ∧ reIt x ∧ reIt y) := ⟨⟨r0, r1⟩, ⟨a0, a1⟩, ix, iy⟩
  have hl := (I.2 r r0 r1).2.2.1
  have hn := I.1
  refine ⟨fun e => T55_part (by omega) hl (h3 G) (fun w => ?_), fun e => T55_part (by omega) hl (h3 G) (fun w => ?_)⟩
  · have := h0 G w
    rw [if_pos e] at this; exact this
  · have := h0 G w
    rw [if_neg e] at this; exact this
theorem T55_filter {post : Int → (Int → Int) → (Int → Int) → Int → Prop} (I : reI hd kd fo ln pt n) (h1 : ¬ ((0 ≤ r ∧ r < n) ∧ (0 ≤ a ∧ a < 3) ∧ reIt x ∧ reIt y) → post (-1) ln pt kn) (h3 : ((0 ≤ r ∧ r < n) ∧ (0 ≤ a ∧ a < 3) ∧ reIt x ∧ reIt y) → ln r = 5 → post (-3) ln pt kn) (h0 : ((0 ≤ r ∧ r < n) ∧ (0 ≤ a ∧ a < 3) ∧ reIt x ∧ reIt y) → ln r < 5 → post (ln r + 1) (updI ln r (ln r + 1)) (updI (updI (updI (updI pt (20 * r + 4 * ln r) 2) (20 * r + 4 * ln r + 1) a) (20 * r + 4 * ln r + 2) x) (20 * r + 4 * ln r + 3) y) 0) : wpX55_filter post ln pt n kn r a x y := by
  unfold wpX55_filter
  refine T55_isRuleB (fun r0 r1 => ⟨fun w => h1 (by omega), fun w => ⟨fun w2 => h1 (by omega), fun w2 => T55_isItemB (fun ix => T55_isItemB (fun iy => ?_) (fun w => h1 (fun z => w z.2.2.2))) (fun w => h1 (fun z => w z.2.2.1))⟩⟩) (fun w => h1 (fun z => w z.1))
  have G : ((0 ≤ r ∧ r < n) ∧ (0 ≤ a ∧ a < 3) ∧ reIt x ∧ reIt y) := ⟨⟨r0, r1⟩, by omega, ix, iy⟩
  have hl := (I.2 r r0 r1).2.2.1
  have hn := I.1
  exact T55_part (by omega) hl (h3 G) (h0 G)
theorem T55_aggregate {post : Int → (Int → Int) → (Int → Int) → Int → Prop} (hn : n ≤ 16) (h1 : ¬ ((0 ≤ r ∧ r < n) ∧ (-1 ≤ k ∧ k ≤ 3) ∧ (0 ≤ k → -6 ≤ v ∧ v ≤ -1)) → post (-1) kd fo kn) (h0 : ((0 ≤ r ∧ r < n) ∧ (-1 ≤ k ∧ k ≤ 3) ∧ (0 ≤ k → -6 ≤ v ∧ v ≤ -1)) → post 1 (updI kd r k) (updI fo r v) 0) : wpX55_aggregate post kd fo n kn r k v := by
  have ok : ((0 ≤ r ∧ r < n) ∧ (-1 ≤ k ∧ k ≤ 3) ∧ (0 ≤ k → -6 ≤ v ∧ v ≤ -1)) → wX55_aggregate_35 post r k v kd fo := fun G => by
    have g1 := G.1
    unfold wX55_aggregate_35
    exact ⟨by omega, fun f1 e1 f2 e2 => by rw [e1, e2]; exact h0 G⟩
  unfold wpX55_aggregate
  exact T55_isRuleB (fun r0 r1 => ⟨fun w => h1 (by omega), fun w => ⟨fun w2 => h1 (by omega), fun w2 => ⟨fun w3 => ok ⟨⟨r0, r1⟩, by omega, fun z => by omega⟩, fun w3 => ⟨fun w4 => h1 (fun z => by have := z.2.2 (by omega); omega), fun w4 => ⟨fun w5 => ok ⟨⟨r0, r1⟩, by omega, fun _ => by omega⟩, fun w5 => h1 (fun z => by have := z.2.2 (by omega); omega)⟩⟩⟩⟩⟩) (fun w => h1 (fun z => w z.1))
theorem reSh_l {f g : Int → Int} (hw : 0 < w) (hx : r ≤ x) (hg : g = reSh f w r x) (i : Int) (h0 : 0 ≤ i) (h1 : i < w) : g (w * x + w + i) = f (w * x + w + i) := by
  rw [hg]
  unfold reSh
  rw [if_neg (by omega)]
theorem T55_drop32 {K : (Int → Int) → Prop} {g : Int → Int} (hx : 0 ≤ x ∧ x < 15) (hp : K (fun i => if 3 * x ≤ i ∧ i < 3 * x + 3 then g (i + 3) else g i)) : ∃ fu : Nat, wX55_drop_32 K x fu 0 g := by
  refine wl2 (fun f y h => wX55_drop_32 K x f y h) (fun y h => (0 ≤ y ∧ y ≤ 3) ∧ h = fun i => if 3 * x ≤ i ∧ i < 3 * x + y then g (i + 3) else g i) (fun y _ => (3 - y).toNat) ?_ 0 g ⟨by decide, funext fun i => by rw [if_neg (by omega)]⟩
  rintro y h ⟨hy, eh⟩ f ih
  rw [wX55_drop_32]
  refine ⟨fun w => ?_, fun w => ⟨by omega, fun v ev => ⟨by omega, fun h2 e2 => ⟨by omega, fun y2 ey => ?_⟩⟩⟩⟩
  · have : y = 3 := by omega
    rw [eh, this]; exact hp
  · subst ey
    refine ih _ _ ⟨by omega, ?_⟩ (by omega)
    rw [e2, ev, eh]
    funext i
    rw [updI_e]
    by_cases z : i = 3 * x + y
    · rw [if_pos z]
      dsimp only
      rw [if_neg (by omega), if_pos (by omega), z, show 3 * x + 3 + y = 3 * x + y + 3 by omega]
    · rw [if_neg z]
      by_cases z2 : 3 * x ≤ i ∧ i < 3 * x + y
      · rw [if_pos z2, if_pos (by omega)]
      · rw [if_neg z2, if_neg (by omega)]
theorem T55_drop67 {K : (Int → Int) → Prop} {g : Int → Int} (hx : 0 ≤ x ∧ x < 15) (hp : K (fun i => if 20 * x ≤ i ∧ i < 20 * x + 20 then g (i + 20) else g i)) : ∃ fu : Nat, wX55_drop_67 K x fu 0 g := by
  refine wl2 (fun f y h => wX55_drop_67 K x f y h) (fun y h => (0 ≤ y ∧ y ≤ 20) ∧ h = fun i => if 20 * x ≤ i ∧ i < 20 * x + y then g (i + 20) else g i) (fun y _ => (20 - y).toNat) ?_ 0 g ⟨by decide, funext fun i => by rw [if_neg (by omega)]⟩
  rintro y h ⟨hy, eh⟩ f ih
  rw [wX55_drop_67]
  refine ⟨fun w => ?_, fun w => ⟨by omega, fun v ev => ⟨by omega, fun h2 e2 => ⟨by omega, fun y2 ey => ?_⟩⟩⟩⟩
  · have : y = 20 := by omega
    rw [eh, this]; exact hp
  · subst ey
    refine ih _ _ ⟨by omega, ?_⟩ (by omega)
    rw [e2, ev, eh]
    funext i
    rw [updI_e]
    by_cases z : i = 20 * x + y
    · rw [if_pos z]
      dsimp only
      rw [if_neg (by omega), if_pos (by omega), z, show 20 * x + 20 + y = 20 * x + y + 20 by omega]
    · rw [if_neg z]
      by_cases z2 : 20 * x ≤ i ∧ i < 20 * x + y
      · rw [if_pos z2, if_pos (by omega)]
      · rw [if_neg z2, if_neg (by omega)]
theorem T55_drop {post : Int → (Int → Int) → (Int → Int) → (Int → Int) → (Int → Int) → (Int → Int) → Int → Int → Prop} (hn : 0 ≤ n ∧ n ≤ 16) (h1 : ¬ (0 ≤ r ∧ r < n) → post (-1) hd kd fo ln pt n kn) (h0 : 0 ≤ r → r < n → post (n - 1) (reSh hd 3 r (n - 1)) (reSh kd 1 r (n - 1)) (reSh fo 1 r (n - 1)) (reSh ln 1 r (n - 1)) (reSh pt 20 r (n - 1)) (n - 1) 0) : wpX55_drop post hd kd fo ln pt n kn r := by
  unfold wpX55_drop
  refine T55_isRuleB (fun r0 r1 => ⟨by omega, fun m em => ?_⟩) h1
  have H := h0 r0 r1
  subst em
  have s0 : ∀ (f : Int → Int) (w : Int), f = reSh f w r r := fun f w => funext fun i => by unfold reSh; rw [if_neg (by omega)]
  have su1 : ∀ (f : Int → Int) (x : Int), r ≤ x → updI (reSh f 1 r x) x (reSh f 1 r x (x + 1)) = reSh f 1 r (x + 1) := fun f x hx => funext fun i => by
    unfold reSh
    rw [updI_e]
    by_cases z : i = x
    · rw [if_pos z, if_neg (by omega), if_pos (by omega), z]
    · rw [if_neg z]
      by_cases z2 : 1 * r ≤ i ∧ i < 1 * x
      · rw [if_pos z2, if_pos (by omega)]
      · rw [if_neg z2, if_neg (by omega)]
  have go : ∀ (j : Nat) (x : Int), r ≤ x → x + j = n - 1 → wX55_drop_22 (fun (f_heads_59 : Int → Int) (f_kinds_60 : Int → Int) (f_folded_61 : Int → Int) (f_lengths_62 : Int → Int) (f_parts_63 : Int → Int) => post (n - 1) f_heads_59 f_kinds_60 f_folded_61 f_lengths_62 f_parts_63 (n - 1) 0) (n - 1) (j + 1) x (reSh hd 3 r x) (reSh kd 1 r x) (reSh fo 1 r x) (reSh ln 1 r x) (reSh pt 20 r x) := fun j => by
    induction j with
    | zero =>
      intro x hx hj
      rw [wX55_drop_22]
      have e : x = n - 1 := by omega
      rw [e]
      exact ⟨fun _ => H, fun w => absurd (Int.le_refl _) w⟩
    | succ j ih =>
      intro x hx hj
      rw [wX55_drop_22]
      refine ⟨fun w => by omega, fun _ => T55_drop32 (by omega) (T55_drop67 (by omega) ⟨by omega, fun v1 ev1 => ⟨by omega, fun f1 ef1 v2 ev2 f2 ef2 v3 ev3 f3 ef3 => ⟨by omega, fun x2 ex => ?_⟩⟩⟩)⟩
      have I := ih (x + 1) (by omega) (by omega)
      rw [ev1, su1 kd x hx] at ef1
      rw [ev2, su1 fo x hx] at ef2
      rw [ev3, su1 ln x hx] at ef3
      have eh : (fun i => if 3 * x ≤ i ∧ i < 3 * x + 3 then reSh hd 3 r x (i + 3) else reSh hd 3 r x i) = reSh hd 3 r (x + 1) := funext fun i => by
        unfold reSh
        by_cases z : 3 * x ≤ i ∧ i < 3 * x + 3
        · rw [if_pos z, if_neg (by omega), if_pos (by omega)]
        · rw [if_neg z]
          by_cases z2 : 3 * r ≤ i ∧ i < 3 * x
          · rw [if_pos z2, if_pos (by omega)]
          · rw [if_neg z2, if_neg (by omega)]
      have ep : (fun i => if 20 * x ≤ i ∧ i < 20 * x + 20 then reSh pt 20 r x (i + 20) else reSh pt 20 r x i) = reSh pt 20 r (x + 1) := funext fun i => by
        unfold reSh
        by_cases z : 20 * x ≤ i ∧ i < 20 * x + 20
        · rw [if_pos z, if_neg (by omega), if_pos (by omega)]
        · rw [if_neg z]
          by_cases z2 : 20 * r ≤ i ∧ i < 20 * x
          · rw [if_pos z2, if_pos (by omega)]
          · rw [if_neg z2, if_neg (by omega)]
      rw [eh, ep, ex, ef1, ef2, ef3]
      exact I
  have G := go (n - 1 - r).toNat r (Int.le_refl _) (by omega)
  rw [← s0, ← s0, ← s0, ← s0, ← s0] at G
  exact ⟨_, G⟩
theorem T55_safe (I : reI hd kd fo ln pt n) (h1 : ¬ (0 ≤ r ∧ r < n) → post (-1)) (h2 : 0 ≤ r → r < n → reSf hd kd fo ln pt r → post 1) (h3 : 0 ≤ r → r < n → ¬ reSf hd kd fo ln pt r → post 0) : wpX55_safe post hd kd fo ln pt n r := by
  unfold wpX55_safe
  exact T55_isRuleB (fun r0 r1 => T55_isSafeB I ⟨r0, r1⟩ (h2 r0 r1) (h3 r0 r1)) h1
end

/-! counting over Int: more of them -/
theorem cntI_ler {p q : Int → Prop} : ∀ n : Nat, (∀ i, 0 ≤ i → i < n → p i → q i) → cntI p n ≤ cntI q n
  | 0, _ => by unfold cntI; exact Int.le_refl _
  | n + 1, h => by
    have ih := cntI_ler n (fun i i0 i1 => h i i0 (by omega))
    have e : ∀ r : Int → Prop, cntI r (n + 1) = cntI r ((n : Int) + 1).toNat ∧ cntI r n = cntI r (n : Int).toNat := fun r => ⟨by rw [show ((n : Int) + 1).toNat = n + 1 by omega], by rw [Int.toNat_natCast]⟩
    rw [(e p).1, (e q).1]
    rw [(e p).2, (e q).2] at ih
    by_cases hp : p n
    · rw [cntI_t (by omega) hp, cntI_t (by omega) (h n (by omega) (by omega) hp)]; omega
    · rw [cntI_f (by omega) hp]
      by_cases hq : q n
      · rw [cntI_t (by omega) hq]; omega
      · rw [cntI_f (by omega) hq]; exact ih
theorem cntI_ltr {p q : Int → Prop} {j : Int} : ∀ n : Nat, (∀ i, 0 ≤ i → i < n → p i → q i) → 0 ≤ j → j < n → q j → ¬ p j → cntI p n + 1 ≤ cntI q n
  | 0, _, a, b, _, _ => by omega
  | n + 1, h, j0, j1, qj, pj => by
    have e : ∀ r : Int → Prop, cntI r (n + 1) = cntI r ((n : Int) + 1).toNat ∧ cntI r n = cntI r (n : Int).toNat := fun r => ⟨by rw [show ((n : Int) + 1).toNat = n + 1 by omega], by rw [Int.toNat_natCast]⟩
    rw [(e p).1, (e q).1]
    by_cases z : j = n
    · rw [z] at qj pj
      have ih := cntI_ler n (fun i i0 i1 => h i i0 (by omega))
      rw [(e p).2, (e q).2] at ih
      rw [cntI_t (by omega) qj, cntI_f (by omega) pj]; omega
    · have ih := cntI_ltr n (fun i i0 i1 => h i i0 (by omega)) j0 (by omega) qj pj
      rw [(e p).2, (e q).2] at ih
      by_cases hp : p n
      · rw [cntI_t (by omega) hp, cntI_t (by omega) (h n (by omega) (by omega) hp)]; omega
      · rw [cntI_f (by omega) hp]
        by_cases hq : q n
        · rw [cntI_t (by omega) hq]; omega
        · rw [cntI_f (by omega) hq]; exact ih

/-! RuleEngine, the reference (X55): what names need, circles, strata -/
def reEc (hd kd fo ln pt : Int → Int) (n r k t a b : Int) : Prop := ((0 ≤ r ∧ r < n) ∧ reSf hd kd fo ln pt r ∧ 0 ≤ k ∧ k < ln r) ∧ ¬ pt (20 * r + 4 * k) = 2 ∧ (hd (3 * r) = a ∧ pt (20 * r + 4 * k + 1) = b) ∧ (t = 2 → pt (20 * r + 4 * k) = 1 ∨ ¬ kd r < 0)
/-- a needs b; strictly with t = 2 -/
def reEd (hd kd fo ln pt : Int → Int) (n t a b : Int) : Prop := ∃ r k, reEc hd kd fo ln pt n r k t a b
def reEp (hd kd fo ln pt : Int → Int) (n R K t a b : Int) : Prop := ∃ r k, reEc hd kd fo ln pt n r k t a b ∧ (r < R ∨ (r = R ∧ k < K))
/-- by way of names below m -/
def reW (E : Int → Int → Prop) : Nat → Int → Int → Prop
  | 0 => E
  | m + 1 => fun a b => reW E m a b ∨ (reW E m a m ∧ reW E m m b)
/-- a name that needs itself strictly -/
def reQ (E X : Int → Int → Prop) (a : Int) : Prop := ∃ b, (0 ≤ b ∧ b < 16) ∧ X a b ∧ (a = b ∨ reW E 16 b a)
noncomputable def reCi (E X : Int → Int → Prop) : Int := if fstI (reQ E X) 16 < 16 then fstI (reQ E X) 16 else -1
def reSol (E X : Int → Int → Prop) (f : Int → Int) : Prop := (∀ a, 0 ≤ a → a < 16 → 0 ≤ f a) ∧ (∀ a b, E a b → f b ≤ f a) ∧ ∀ a b, X a b → f b + 1 ≤ f a
def reLs (E X : Int → Int → Prop) (f : Int → Int) : Prop := reSol E X f ∧ ∀ g, reSol E X g → ∀ a, 0 ≤ a → a < 16 → f a ≤ g a
/-- a row of sums -/
def suI (f : Int → Int) : Nat → Int
  | 0 => 0
  | n + 1 => suI f n + f n
theorem suI_u {f : Int → Int} {a v : Int} : ∀ n : Nat, suI (updI f a v) n = suI f n + (if 0 ≤ a ∧ a < n then v - f a else 0)
  | 0 => by unfold suI; rw [if_neg (by omega)]; rfl
  | n + 1 => by
    rw [suI, suI, suI_u n, updI_e]
    by_cases z : (n : Int) = a
    · rw [if_pos z, if_neg (by omega), if_pos (by omega), z]; omega
    · rw [if_neg z]
      by_cases z2 : 0 ≤ a ∧ a < n
      · rw [if_pos z2, if_pos (by omega)]; omega
      · rw [if_neg z2, if_neg (by omega)]; omega
theorem suI_b {f : Int → Int} {m : Int} : ∀ n : Nat, (∀ a : Int, 0 ≤ a → a < n → 0 ≤ f a ∧ f a ≤ m) → 0 ≤ suI f n ∧ suI f n ≤ n * m
  | 0, _ => by unfold suI; omega
  | n + 1, h => by
    have ih := suI_b n (fun a a0 a1 => h a a0 (by omega))
    have q := h n (by omega) (by omega)
    rw [suI]
    have e : ((n + 1 : Nat) : Int) * m = n * m + m := by rw [show ((n + 1 : Nat) : Int) = (n : Int) + 1 by omega, Int.add_mul, Int.one_mul]
    omega
section
variable {E X : Int → Int → Prop}
theorem reW_up : ∀ {m m' : Nat} {a b : Int}, m ≤ m' → reW E m a b → reW E m' a b := fun {m m' a b} h w => by
  induction m' with
  | zero => rw [show m = 0 by omega] at w; exact w
  | succ m' ih =>
    by_cases z : m = m' + 1
    · rw [← z]; exact w
    · exact Or.inl (ih (by omega))
/-- pivots below m have been gone through -/
theorem reW_tr : ∀ m : Nat, ∀ p : Nat, p < m → ∀ a b, reW E m a p → reW E m p b → reW E m a b
  | 0, p, hp, _, _, _, _ => by omega
  | m + 1, p, hp, a, b, h1, h2 => by
    have ih := reW_tr m
    by_cases z : p = m
    · subst z
      have r1 : reW E p a p := h1.elim id (fun q => q.1)
      have r2 : reW E p p b := h2.elim id (fun q => q.2)
      exact Or.inr ⟨r1, r2⟩
    · have pm : p < m := by omega
      rcases h1 with h1 | ⟨h1, h1'⟩
      · rcases h2 with h2 | ⟨h2, h2'⟩
        · exact Or.inl (ih p pm a b h1 h2)
        · exact Or.inr ⟨ih p pm a m h1 h2, h2'⟩
      · rcases h2 with h2 | ⟨h2, h2'⟩
        · exact Or.inr ⟨h1, ih p pm m b h1' h2⟩
        · exact Or.inr ⟨h1, h2'⟩
theorem reW_r (hE : ∀ a b, E a b → (0 ≤ a ∧ a < 16) ∧ 0 ≤ b ∧ b < 16) : ∀ (m : Nat) {a b : Int}, reW E m a b → (0 ≤ a ∧ a < 16) ∧ 0 ≤ b ∧ b < 16
  | 0, a, b, h => hE a b h
  | m + 1, a, b, h => by
    rcases h with h | ⟨h, h'⟩
    · exact reW_r hE m h
    · exact ⟨(reW_r hE m h).1, (reW_r hE m h').2⟩
theorem reW_t (hE : ∀ a b, E a b → (0 ≤ a ∧ a < 16) ∧ 0 ≤ b ∧ b < 16) {a b c : Int} (h1 : reW E 16 a b) (h2 : reW E 16 b c) : reW E 16 a c := by
  have r := (reW_r hE 16 h1).2
  have eb : ((b.toNat : Nat) : Int) = b := by omega
  rw [← eb] at h1 h2
  exact reW_tr 16 b.toNat (by omega) a c h1 h2
/-- a name's rank: how many it reaches -/
noncomputable def reRk (E : Int → Int → Prop) (a : Int) : Int := cntI (fun b => b = a ∨ reW E 16 a b) 16 - 1
theorem reRk_b {a : Int} (ha : 0 ≤ a ∧ a < 16) : 0 ≤ reRk E a ∧ reRk E a ≤ 15 := by
  unfold reRk
  have h1 := (cntI_b (fun b => b = a ∨ reW E 16 a b) 16).2
  have h2 := cntI_ltr (p := fun _ => False) (q := fun b => b = a ∨ reW E 16 a b) (j := a) 16 (fun _ _ _ z => z.elim) ha.1 (by omega) (Or.inl rfl) id
  have h3 := (cntI_b (fun _ => False) 16).1
  omega
theorem reRk_s (hE : ∀ a b, E a b → (0 ≤ a ∧ a < 16) ∧ 0 ≤ b ∧ b < 16) (hX : ∀ a b, X a b → E a b) (no : reCi E X = -1) : reSol E X (reRk E) := by
  have up : ∀ {a b}, E a b → reW E 16 a b := fun h => reW_up (m := 0) (by decide) h
  have noQ : ∀ a, 0 ≤ a → a < 16 → ¬ reQ E X a := fun a a0 a1 q => by
    obtain ⟨fb, f1, f2⟩ := fstI_s (reQ E X) 16
    unfold reCi at no
    by_cases w : fstI (reQ E X) 16 < 16
    · rw [if_pos w] at no
      have := fb.1; omega
    · exact f2 a a0 (by omega) q
  refine ⟨fun a a0 a1 => (reRk_b ⟨a0, a1⟩).1, fun a b e => ?_, fun a b e => ?_⟩
  · unfold reRk
    have := cntI_ler (p := fun c => c = b ∨ reW E 16 b c) (q := fun c => c = a ∨ reW E 16 a c) 16 (fun c _ _ h => Or.inr (h.elim (fun z => z ▸ up e) (fun z => reW_t hE (up e) z)))
    omega
  · have r := hE a b (hX a b e)
    unfold reRk
    have := cntI_ltr (p := fun c => c = b ∨ reW E 16 b c) (q := fun c => c = a ∨ reW E 16 a c) (j := a) 16 (fun c _ _ h => Or.inr (h.elim (fun z => z ▸ up (hX a b e)) (fun z => reW_t hE (up (hX a b e)) z))) r.1.1 (by omega) (Or.inl rfl) (fun h => noQ a r.1.1 r.1.2 ⟨b, r.2, e, h⟩)
    omega
theorem reLs_u {f g : Int → Int} (hf : reLs E X f) (hg : reLs E X g) {a : Int} (a0 : 0 ≤ a) (a1 : a < 16) : f a = g a := by
  have := hf.2 g hg.1 a a0 a1
  have := hg.2 f hf.1 a a0 a1
  omega
end
section
variable {hd kd fo ln pt nd cm st : Int → Int} {n r k v a b c x y t R K' : Int} {A B : Prop} {E X : Int → Int → Prop}
theorem reEp_s : reEp hd kd fo ln pt n R (K' + 1) t a b ↔ reEp hd kd fo ln pt n R K' t a b ∨ reEc hd kd fo ln pt n R K' t a b := by
  refine ⟨fun ⟨r, k, h, w⟩ => ?_, fun z => z.elim (fun ⟨r, k, h, w⟩ => ⟨r, k, h, by omega⟩) (fun h => ⟨R, K', h, by omega⟩)⟩
  by_cases q : r = R ∧ k = K'
  · rw [q.1, q.2] at h; exact Or.inr h
  · exact Or.inl ⟨r, k, h, by omega⟩
theorem reEp_n (h : ∀ k, ln R ≤ K' ∨ ¬ reEc hd kd fo ln pt n R k t a b) : reEp hd kd fo ln pt n (R + 1) 0 t a b ↔ reEp hd kd fo ln pt n R K' t a b := by
  refine ⟨fun ⟨r, k, h', w⟩ => ⟨r, k, h', ?_⟩, fun ⟨r, k, h', w⟩ => ⟨r, k, h', ?_⟩⟩
  · by_cases q : r = R
    · rcases h k with z | z
      · have := h'.1.2.2.2
        rw [q] at this; omega
      · rw [q] at h'; exact absurd h' z
    · have := h'.1.2.2.1
      omega
  · omega
theorem reEp_0 : ¬ reEp hd kd fo ln pt n 0 0 t a b := fun ⟨r, k, h, w⟩ => by
  have := h.1.1
  have := h.1.2.2.1
  omega
theorem reEp_e : reEp hd kd fo ln pt n n 0 t a b ↔ reEd hd kd fo ln pt n t a b := by
  refine ⟨fun ⟨r, k, h, _⟩ => ⟨r, k, h⟩, fun ⟨r, k, h⟩ => ⟨r, k, h, Or.inl h.1.1.2⟩⟩
theorem reEd_r (I : reI hd kd fo ln pt n) (h : reEd hd kd fo ln pt n t a b) : (0 ≤ a ∧ a < 16) ∧ 0 ≤ b ∧ b < 16 := by
  obtain ⟨r, k, ⟨h1, h2, h3, h4⟩, _, ⟨e1, e2⟩, _⟩ := h
  have i := I.2 r h1.1 h1.2
  have p := i.2.2.2 k h3 h4
  rw [← e1, ← e2]
  exact ⟨i.1.1, p.2.1⟩
theorem reEd_2 (h : reEd hd kd fo ln pt n 2 a b) : reEd hd kd fo ln pt n 1 a b := by
  obtain ⟨r, k, h1, h2, h3, _⟩ := h
  exact ⟨r, k, h1, h2, h3, fun z => absurd z (by decide)⟩
/-- the matrix of needs -/
def reNd (P2 P1 : Int → Int → Prop) (f : Int → Int) : Prop := ∀ a b, 0 ≤ a → a < 16 → 0 ≤ b → b < 16 → ((f (16 * a + b) = 2 ↔ P2 a b) ∧ (1 ≤ f (16 * a + b) ↔ P1 a b)) ∧ 0 ≤ f (16 * a + b) ∧ f (16 * a + b) ≤ 2
theorem reNd.cg {P2 P1 Q2 Q1 : Int → Int → Prop} {f : Int → Int} (h : reNd P2 P1 f) (e2 : ∀ a b, Q2 a b ↔ P2 a b) (e1 : ∀ a b, Q1 a b ↔ P1 a b) : reNd Q2 Q1 f := fun a b a0 a1 b0 b1 => by
  rw [e2, e1]; exact h a b a0 a1 b0 b1
theorem T55_n2 {K : (Int → Int) → Prop} (hp : ∀ f, (∀ i, 0 ≤ i → i < 256 → f i = 0) → K f) : ∃ fu : Nat, wX55_need_2 K fu 0 nd := by
  refine wl2 (fun f x y => wX55_need_2 K f x y) (fun x y => (0 ≤ x ∧ x ≤ 256) ∧ ∀ i, 0 ≤ i → i < x → y i = 0) (fun x _ => (256 - x).toNat) ?_ 0 nd ⟨by decide, fun i i0 i1 => by omega⟩
  rintro x y ⟨hx, hy⟩ f ih
  rw [wX55_need_2]
  refine ⟨fun w => hp y (fun i i0 i1 => hy i i0 (by omega)), fun w => ⟨by omega, fun y2 e2 => ⟨by omega, fun x2 ex => ?_⟩⟩⟩
  subst ex
  refine ih _ _ ⟨by omega, fun i i0 i1 => ?_⟩ (by omega)
  rw [e2]
  by_cases z : i = x
  · rw [z, updI_s]
  · rw [updI_n z]; exact hy i i0 (by omega)
theorem T55_n45 {K : (Int → Int) → Prop} (I : reI hd kd fo ln pt n) (hr : 0 ≤ r ∧ r < n) (hs : reSf hd kd fo ln pt r) (hN : reNd (reEp hd kd fo ln pt n r 0 2) (reEp hd kd fo ln pt n r 0 1) nd) (hp : ∀ f, reNd (reEp hd kd fo ln pt n (r + 1) 0 2) (reEp hd kd fo ln pt n (r + 1) 0 1) f → K f) : ∃ fu : Nat, wX55_need_45 K r hd kd ln pt fu 0 nd := by
  obtain ⟨⟨i1, _, _⟩, ⟨i2, _⟩, i3, i4⟩ := I.2 r hr.1 hr.2
  have hn := I.1
  refine wl2 (fun f x y => wX55_need_45 K r hd kd ln pt f x y) (fun x y => (0 ≤ x ∧ x ≤ ln r) ∧ reNd (reEp hd kd fo ln pt n r x 2) (reEp hd kd fo ln pt n r x 1) y) (fun x _ => (ln r - x).toNat) ?_ 0 nd ⟨by omega, hN⟩
  rintro x y ⟨hx, hy⟩ f ih
  rw [wX55_need_45]
  refine ⟨by omega, fun w => hp y ?_, fun w => ⟨by omega, fun at_ ea => ?_⟩⟩
  · have e : x = ln r := by omega
    exact hy.cg (fun a b => reEp_n (fun k => Or.inl (by omega))) (fun a b => reEp_n (fun k => Or.inl (by omega)))
  subst ea
  obtain ⟨p1, p2, _, _⟩ := i4 x hx.1 (by omega)
  refine ⟨by omega, fun e2 => ⟨by omega, fun x2 ex => ?_⟩, fun e2 => ⟨by omega, by omega, by omega, fun to et => ?_⟩⟩
  · rw [ex]
    refine ih _ _ ⟨by omega, hy.cg (fun a b => ?_) (fun a b => ?_)⟩ (by omega)
    · exact reEp_s.trans ⟨fun z => z.elim id (fun q => absurd e2 q.2.1), Or.inl⟩
    · exact reEp_s.trans ⟨fun z => z.elim id (fun q => absurd e2 q.2.1), Or.inl⟩
  have step : ∀ how : Int, (how = 1 ∨ how = 2) → (how = 2 ↔ (pt (20 * r + 4 * x) = 1 ∨ ¬ kd r < 0)) → wX55_need_123 (wX55_need_45 K r hd kd ln pt f) x to how y := fun how h12 hh => by
    have ec : ∀ t a b, reEc hd kd fo ln pt n r x t a b ↔ ((hd (3 * r) = a ∧ pt (20 * r + 4 * x + 1) = b) ∧ (t = 2 → how = 2)) := fun t a b => by
      unfold reEc
      rw [hh]
      exact ⟨fun z => z.2.2, fun z => ⟨⟨hr, hs, hx.1, by omega⟩, e2, z⟩⟩
    have yt := hy (hd (3 * r)) (pt (20 * r + 4 * x + 1)) i1.1 i1.2 p2.1 p2.2
    rw [← et] at yt
    have fin : ∀ y2 : Int → Int, (∀ a b, 0 ≤ a → a < 16 → 0 ≤ b → b < 16 → ¬ (a = hd (3 * r) ∧ b = pt (20 * r + 4 * x + 1)) → y2 (16 * a + b) = y (16 * a + b)) → ((y2 to = 2 ↔ (y to = 2 ∨ how = 2)) ∧ 1 ≤ y2 to ∧ y2 to ≤ 2) → reNd (reEp hd kd fo ln pt n r (x + 1) 2) (reEp hd kd fo ln pt n r (x + 1) 1) y2 := fun y2 h1 h2 a b a0 a1 b0 b1 => by
      have ya := hy a b a0 a1 b0 b1
      rw [reEp_s, reEp_s, ec, ec]
      by_cases q : a = hd (3 * r) ∧ b = pt (20 * r + 4 * x + 1)
      · rw [q.1, q.2, ← et]
        rw [q.1, q.2, ← et] at ya
        refine ⟨⟨?_, ?_⟩, by omega⟩
        · rw [h2.1, ya.1.1]
          exact or_congr Iff.rfl ⟨fun z => ⟨⟨rfl, rfl⟩, fun _ => z⟩, fun z => z.2 rfl⟩
        · exact ⟨fun _ => Or.inr ⟨⟨rfl, rfl⟩, fun z => absurd z (by decide)⟩, fun _ => h2.2.1⟩
      · rw [h1 a b a0 a1 b0 b1 q]
        refine ⟨⟨?_, ?_⟩, ya.2⟩
        · rw [ya.1.1]
          exact ⟨Or.inl, fun z => z.elim id (fun z => absurd ⟨z.1.1.symm, z.1.2.symm⟩ q)⟩
        · rw [ya.1.2]
          exact ⟨Or.inl, fun z => z.elim id (fun z => absurd ⟨z.1.1.symm, z.1.2.symm⟩ q)⟩
    unfold wX55_need_123
    refine ⟨by omega, fun w3 => ⟨by omega, fun x2 ex => ?_⟩, fun w3 y2 e3 => ⟨by omega, fun x2 ex => ?_⟩⟩
    · rw [ex]
      refine ih _ _ ⟨by omega, fin y (fun _ _ _ _ _ _ _ => rfl) ⟨?_, by omega⟩⟩ (by omega)
      omega
    · rw [ex]
      refine ih _ _ ⟨by omega, fin y2 (fun a b a0 a1 b0 b1 q => ?_) ?_⟩ (by omega)
      · rw [e3]
        refine updI_n (fun z => q ?_)
        omega
      · rw [e3, updI_s]
        omega
  refine ⟨fun s1 => step 2 (Or.inr rfl) ⟨fun _ => Or.inl s1, fun _ => rfl⟩, fun s1 => ⟨fun k0 => step 1 (Or.inl rfl) ⟨fun z => absurd z (by decide), fun z => z.elim (fun q => absurd q s1) (fun q => absurd k0 q)⟩, fun k0 => step 2 (Or.inr rfl) ⟨fun _ => Or.inr k0, fun _ => rfl⟩⟩⟩
theorem T55_n24 {K : (Int → Int) → Prop} (I : reI hd kd fo ln pt n) (h0 : ∀ i, 0 ≤ i → i < 256 → nd i = 0) (hp : ∀ f, reNd (reEd hd kd fo ln pt n 2) (reEd hd kd fo ln pt n 1) f → K f) : ∃ fu : Nat, wX55_need_24 K hd kd fo ln pt n fu 0 nd := by
  have hn := I.1
  have go : ∀ (j : Nat) (x : Int) (y : Int → Int), 0 ≤ x → x + j = n → reNd (reEp hd kd fo ln pt n x 0 2) (reEp hd kd fo ln pt n x 0 1) y → wX55_need_24 K hd kd fo ln pt n (j + 1) x y := fun j => by
    induction j with
    | zero =>
      intro x y x0 hj hy
      rw [wX55_need_24]
      have e : x = n := by omega
      rw [e] at hy ⊢
      exact ⟨fun _ => hp y (hy.cg (fun a b => reEp_e.symm) (fun a b => reEp_e.symm)), fun w => absurd (Int.le_refl _) w⟩
    | succ j ih =>
      intro x y x0 hj hy
      rw [wX55_need_24]
      refine ⟨fun w => by omega, fun _ => T55_isSafeB I ⟨x0, by omega⟩ (fun s => T55_n45 I ⟨x0, by omega⟩ s hy (fun f hf => ⟨by omega, fun x2 ex => by rw [ex]; exact ih _ _ (by omega) (by omega) hf⟩)) (fun s => ⟨by omega, fun x2 ex => ?_⟩)⟩
      rw [ex]
      refine ih _ _ (by omega) (by omega) (hy.cg (fun a b => reEp_n (fun k => Or.inr (fun z => s z.1.2.1))) (fun a b => reEp_n (fun k => Or.inr (fun z => s z.1.2.1))))
  refine ⟨_, go n.toNat 0 nd (Int.le_refl 0) (by omega) (fun a b a0 a1 b0 b1 => ?_)⟩
  rw [h0 (16 * a + b) (by omega) (by omega)]
  exact ⟨⟨⟨fun z => absurd z (by decide), fun z => absurd z reEp_0⟩, ⟨fun z => absurd z (by decide), fun z => absurd z reEp_0⟩⟩, by decide⟩
/-- a matrix of truths -/
def reMt (P : Int → Int → Prop) (f : Int → Int) : Prop := ∀ a b, 0 ≤ a → a < 16 → 0 ≤ b → b < 16 → (¬ f (16 * a + b) = 0 ↔ P a b)
theorem T55_n160 {K : (Int → Int) → Prop} {P2 P1 : Int → Int → Prop} (hN : reNd P2 P1 nd) (hp : ∀ f, reMt P1 f → K f) : ∃ fu : Nat, wX55_need_160 K nd fu 0 cm := by
  refine wl2 (fun f x y => wX55_need_160 K nd f x y) (fun x y => (0 ≤ x ∧ x ≤ 256) ∧ ∀ i, 0 ≤ i → i < x → (¬ y i = 0 ↔ 1 ≤ nd i)) (fun x _ => (256 - x).toNat) ?_ 0 cm ⟨by decide, fun i i0 i1 => by omega⟩
  rintro x y ⟨hx, hy⟩ f ih
  rw [wX55_need_160]
  refine ⟨fun w => hp y (fun a b a0 a1 b0 b1 => (hy (16 * a + b) (by omega) (by omega)).trans (hN a b a0 a1 b0 b1).1.2), fun w => ⟨by omega, fun z y2 e2 => ⟨by omega, fun x2 ex => ?_⟩, fun z y2 e2 => ⟨by omega, fun x2 ex => ?_⟩⟩⟩
  · subst ex
    refine ih _ _ ⟨by omega, fun i i0 i1 => ?_⟩ (by omega)
    rw [e2]
    by_cases q : i = x
    · rw [q, updI_s]; omega
    · rw [updI_n q]; exact hy i i0 (by omega)
  · subst ex
    refine ih _ _ ⟨by omega, fun i i0 i1 => ?_⟩ (by omega)
    rw [e2]
    by_cases q : i = x
    · rw [q, updI_s]; omega
    · rw [updI_n q]; exact hy i i0 (by omega)
theorem T55_n203 {K : (Int → Int) → Prop} {m : Nat} (hm : m < 16) (hM : reMt (reW E m) cm) (hp : ∀ f, reMt (reW E (m + 1)) f → K f) : ∃ fu : Nat, wX55_need_203 K m fu 0 cm := by
  refine wl2 (fun f x y => wX55_need_203 K m f x y) (fun x y => (0 ≤ x ∧ x ≤ 256) ∧ ∀ a b, 0 ≤ a → a < 16 → 0 ≤ b → b < 16 → (¬ y (16 * a + b) = 0 ↔ (reW E m a b ∨ (16 * a + b < x ∧ reW E m a m ∧ reW E m m b)))) (fun x _ => (256 - x).toNat) ?_ 0 cm ⟨by decide, fun a b a0 a1 b0 b1 => (hM a b a0 a1 b0 b1).trans ⟨Or.inl, fun z => z.elim id (fun z => by omega)⟩⟩
  rintro x y ⟨hx, hy⟩ f ih
  rw [wX55_need_203]
  refine ⟨fun w => hp y (fun a b a0 a1 b0 b1 => (hy a b a0 a1 b0 b1).trans (or_congr Iff.rfl ⟨fun z => z.2, fun z => ⟨by omega, z⟩⟩)), fun w => ⟨hx.1, by omega, ?_⟩⟩
  have exx : x = 16 * (x / 16) + x % 16 := by omega
  have c1 := (hy (x / 16) m (by omega) (by omega) (by omega) (by omega)).trans ⟨fun z => z.elim id (fun z => z.2.1), Or.inl⟩
  have c2 := (hy m (x % 16) (by omega) (by omega) (by omega) (by omega)).trans ⟨fun z => z.elim id (fun z => z.2.2), Or.inl⟩
  have skip : ¬ (reW E m (x / 16) m ∧ reW E m m (x % 16)) → wX55_need_203 K m f (x + 1) y := fun no => by
    refine ih _ _ ⟨by omega, fun a b a0 a1 b0 b1 => (hy a b a0 a1 b0 b1).trans (or_congr Iff.rfl ⟨fun z => ⟨by omega, z.2⟩, fun z => ⟨?_, z.2⟩⟩)⟩ (by omega)
    by_cases q : 16 * a + b = x
    · have e1 : a = x / 16 := by omega
      have e2 : b = x % 16 := by omega
      rw [e1, e2] at z
      exact absurd z.2 no
    · omega
  refine ⟨fun z => ⟨by omega, fun x2 ex => by rw [ex]; exact skip (fun q => (c1.2 q.1) z)⟩, fun z1 => ⟨by omega, fun z => ⟨by omega, fun x2 ex => by rw [ex]; exact skip (fun q => (c2.2 q.2) z)⟩, fun z2 => ⟨by omega, fun y2 e2 => ⟨by omega, fun x2 ex => ?_⟩⟩⟩⟩
  rw [ex]
  refine ih _ _ ⟨by omega, fun a b a0 a1 b0 b1 => ?_⟩ (by omega)
  rw [e2, updI_e]
  by_cases q : 16 * a + b = x
  · have e1 : a = x / 16 := by omega
    have e2 : b = x % 16 := by omega
    rw [if_pos q, e1, e2]
    exact ⟨fun _ => Or.inr ⟨by omega, c1.1 z1, c2.1 z2⟩, fun _ => by decide⟩
  · rw [if_neg q, hy a b a0 a1 b0 b1]
    exact or_congr Iff.rfl ⟨fun z => ⟨by omega, z.2⟩, fun z => ⟨by omega, z.2⟩⟩
theorem T55_n195 {K : (Int → Int) → Prop} (hM : reMt E cm) (hp : ∀ f, reMt (reW E 16) f → K f) : ∃ fu : Nat, wX55_need_195 K fu 0 cm := by
  have go : ∀ (j m : Nat) (y : Int → Int), m + j = 16 → reMt (reW E m) y → wX55_need_195 K (j + 1) m y := fun j => by
    induction j with
    | zero =>
      intro m y hm hy
      rw [wX55_need_195]
      have e : m = 16 := by omega
      subst e
      exact ⟨fun _ => hp y hy, fun w => absurd (by decide) w⟩
    | succ j ih =>
      intro m y hm hy
      rw [wX55_need_195]
      refine ⟨fun w => by omega, fun _ => T55_n203 (by omega) hy (fun f hf => ⟨by omega, fun x2 ex => ?_⟩)⟩
      have I := ih (m + 1) f (by omega) hf
      rw [show ((m + 1 : Nat) : Int) = (m : Int) + 1 by omega] at I
      rw [ex]; exact I
  exact ⟨17, go 16 0 cm rfl hM⟩
theorem T55_n272 {K : Int → Prop} (hN : reNd X E nd) (hM : reMt (reW E 16) cm) (hp : K (reCi E X)) : ∃ fu : Nat, wX55_need_272 K nd cm fu 255 (-1) := by
  have go : ∀ (j : Nat) (c : Int), j ≤ 256 → ((c = -1 ∧ ∀ a b, 0 ≤ a → a < 16 → 0 ≤ b → b < 16 → (j : Int) ≤ 16 * a + b → ¬ (X a b ∧ (a = b ∨ reW E 16 b a))) ∨ ((0 ≤ c ∧ c < 16) ∧ reQ E X c ∧ ∀ a b, 0 ≤ a → a < c → 0 ≤ b → b < 16 → (j : Int) ≤ 16 * a + b → ¬ (X a b ∧ (a = b ∨ reW E 16 b a)))) → (0 ≤ c → (j : Int) ≤ 16 * c + 15) → wX55_need_272 K nd cm (j + 1) ((j : Int) - 1) c := fun j => by
    induction j with
    | zero =>
      intro c hj hc hc2
      rw [wX55_need_272]
      refine ⟨fun _ => ?_, fun w => absurd (by decide) w⟩
      have ec : c = reCi E X := by
        obtain ⟨fb, f1, f2⟩ := fstI_s (reQ E X) 16
        have fb0 : 0 ≤ fstI (reQ E X) 16 := fb.1
        unfold reCi
        rcases hc with ⟨e, no⟩ | ⟨hb, q, no⟩
        · rw [if_neg (fun w => by
            obtain ⟨b, hb, xb⟩ := f1 w
            exact no _ b fb0 w hb.1 hb.2 (by omega) xb)]
          exact e
        · have e2 : fstI (reQ E X) 16 = c := by
            rcases Int.lt_trichotomy (fstI (reQ E X) 16) c with z | z | z
            · obtain ⟨b, hb', xb⟩ := f1 (by show fstI (reQ E X) 16 < ((16 : Nat) : Int); omega)
              exact absurd xb (no _ b fb0 z hb'.1 hb'.2 (by omega))
            · exact z
            · exact absurd q (f2 c hb.1 z)
          rw [e2, if_pos hb.2]
      rw [ec]; exact hp
    | succ j ih =>
      intro c hj hc hc2
      rw [wX55_need_272, show ((j + 1 : Nat) : Int) - 1 = (j : Int) by omega]
      dsimp only
      have ejj : (j : Int) = 16 * ((j : Int) / 16) + (j : Int) % 16 := by omega
      have dn := (hN ((j : Int) / 16) ((j : Int) % 16) (by omega) (by omega) (by omega) (by omega)).1.1
      have dm := hM ((j : Int) % 16) ((j : Int) / 16) (by omega) (by omega) (by omega) (by omega)
      rw [← ejj] at dn
      have skip : ¬ (X ((j : Int) / 16) ((j : Int) % 16) ∧ ((j : Int) / 16 = (j : Int) % 16 ∨ reW E 16 ((j : Int) % 16) ((j : Int) / 16))) → wX55_need_272 K nd cm (j + 1) ((j : Int) + (-1)) c := fun no => by
        rw [show (j : Int) + (-1) = (j : Int) - 1 by omega]
        have ext : ∀ a b, 0 ≤ a → a < 16 → 0 ≤ b → b < 16 → (j : Int) ≤ 16 * a + b → ¬ ((j + 1 : Nat) : Int) ≤ 16 * a + b → ¬ (X a b ∧ (a = b ∨ reW E 16 b a)) := fun a b a0 a1 b0 b1 h1 h2 => by
          have e1 : a = (j : Int) / 16 := by omega
          have e2 : b = (j : Int) % 16 := by omega
          rw [e1, e2]; exact no
        refine ih c (by omega) (hc.elim (fun ⟨e, h⟩ => Or.inl ⟨e, fun a b a0 a1 b0 b1 h1 => ?_⟩) (fun ⟨hb, q, h⟩ => Or.inr ⟨hb, q, fun a b a0 a1 b0 b1 h1 => ?_⟩)) (fun z => by have := hc2 z; omega)
        · by_cases z : ((j + 1 : Nat) : Int) ≤ 16 * a + b
          · exact h a b a0 a1 b0 b1 z
          · exact ext a b a0 a1 b0 b1 h1 z
        · by_cases z : ((j + 1 : Nat) : Int) ≤ 16 * a + b
          · exact h a b a0 a1 b0 b1 z
          · exact ext a b a0 (by omega) b0 b1 h1 z
      have take : X ((j : Int) / 16) ((j : Int) % 16) → ((j : Int) / 16 = (j : Int) % 16 ∨ reW E 16 ((j : Int) % 16) ((j : Int) / 16)) → wX55_need_272 K nd cm (j + 1) ((j : Int) + (-1)) ((j : Int) / 16) := fun h1 h2 => by
        rw [show (j : Int) + (-1) = (j : Int) - 1 by omega]
        refine ih _ (by omega) (Or.inr ⟨by omega, ⟨(j : Int) % 16, by omega, h1, h2⟩, fun a b a0 a1 b0 b1 h => by omega⟩) (fun _ => by omega)
      refine ⟨fun w => by omega, fun _ => ⟨by omega, fun x2 e2 x3 e3 => ⟨by omega, ?_⟩⟩⟩
      rw [e2, e3]
      refine ⟨fun n2 => ⟨fun eq => ⟨by omega, fun x1 ex => by rw [ex]; exact take (dn.1 n2) (Or.inl eq)⟩, fun ne => ⟨by omega, fun c0 => ⟨by omega, fun x1 ex => by rw [ex]; exact skip (fun z => z.2.elim ne (fun q => (dm.2 q) c0))⟩, fun c0 => ⟨by omega, fun x1 ex => by rw [ex]; exact take (dn.1 n2) (Or.inr (dm.1 c0))⟩⟩⟩, fun n2 => ⟨by omega, fun x1 ex => by rw [ex]; exact skip (fun z => n2 (dn.2 z.1))⟩⟩
  exact ⟨257, go 256 (-1) (by decide) (Or.inl ⟨rfl, fun a b a0 a1 b0 b1 h => by omega⟩) (fun z => absurd z (by decide))⟩
theorem T55_need {post : Int → (Int → Int) → (Int → Int) → Prop} (I : reI hd kd fo ln pt n) (hp : ∀ f g, reNd (reEd hd kd fo ln pt n 2) (reEd hd kd fo ln pt n 1) f → post (reCi (reEd hd kd fo ln pt n 1) (reEd hd kd fo ln pt n 2)) f g) : wpX55_need post hd kd fo ln pt n nd cm := by
  unfold wpX55_need
  exact T55_n2 (fun f1 h1 => T55_n24 I h1 (fun f2 h2 => T55_n160 h2 (fun f3 h3 => T55_n195 h3 (fun f4 h4 => T55_n272 h2 h4 (hp f2 f4 h2)))))
theorem T55_l42 {K : Int → (Int → Int) → Prop} {s : Int → Int} (hN : reNd X E nd) (hE : ∀ a b, E a b → (0 ≤ a ∧ a < 16) ∧ 0 ≤ b ∧ b < 16) (hX : ∀ a b, X a b → E a b) (h0 : ∀ a, 0 ≤ a → a < 16 → 0 ≤ s a ∧ s a ≤ 15) (hl : ∀ g, reSol E X g → ∀ a, 0 ≤ a → a < 16 → s a ≤ g a) (hx : ∃ g, reSol E X g ∧ ∀ a, 0 ≤ a → a < 16 → g a ≤ 15) (hp0 : reLs E X s → K 0 s) (hp1 : ∀ s', (∀ a, 0 ≤ a → a < 16 → 0 ≤ s' a ∧ s' a ≤ 15) → (∀ g, reSol E X g → ∀ a, 0 ≤ a → a < 16 → s' a ≤ g a) → suI s 16 < suI s' 16 → K 1 s') : ∃ fu : Nat, wX55_layer_42 K nd fu 0 0 s := by
  obtain ⟨g0, hg0, hg15⟩ := hx
  refine wl3 (fun f c x y => wX55_layer_42 K nd f c x y) (fun c x y => (0 ≤ x ∧ x ≤ 256) ∧ (∀ a, 0 ≤ a → a < 16 → 0 ≤ y a ∧ y a ≤ 15) ∧ (∀ g, reSol E X g → ∀ a, 0 ≤ a → a < 16 → y a ≤ g a) ∧ ((c = 0 ∧ y = s ∧ ∀ a b, 0 ≤ a → a < 16 → 0 ≤ b → b < 16 → 16 * a + b < x → (E a b → s b ≤ s a) ∧ (X a b → s b + 1 ≤ s a)) ∨ (c = 1 ∧ suI s 16 < suI y 16))) (fun _ x _ => (256 - x).toNat) ?_ 0 0 s ⟨by decide, h0, hl, Or.inl ⟨rfl, rfl, fun a b a0 a1 b0 b1 h => by omega⟩⟩
  rintro c x y ⟨hx, y0, yl, hc⟩ f ih
  rw [wX55_layer_42]
  refine ⟨fun w => ?_, fun w => ⟨hx.1, by omega, by omega, ?_⟩⟩
  · rcases hc with ⟨e, ey, hs⟩ | ⟨e, hs⟩
    · rw [e, ey]
      refine hp0 ⟨⟨fun a a0 a1 => (h0 a a0 a1).1, fun a b h => ?_, fun a b h => ?_⟩, hl⟩
      · have r := hE a b h
        exact (hs a b r.1.1 r.1.2 r.2.1 r.2.2 (by omega)).1 h
      · have r := hE a b (hX a b h)
        exact (hs a b r.1.1 r.1.2 r.2.1 r.2.2 (by omega)).2 h
    · rw [e]; exact hp1 y y0 yl hs
  have exx : x = 16 * (x / 16) + x % 16 := by omega
  have dn := hN (x / 16) (x % 16) (by omega) (by omega) (by omega) (by omega)
  rw [← exx] at dn
  have ya := y0 (x / 16) (by omega) (by omega)
  have yb := y0 (x % 16) (by omega) (by omega)
  refine ⟨by omega, fun least el => ?_⟩
  have skip : ((E (x / 16) (x % 16) → y (x % 16) ≤ y (x / 16)) ∧ (X (x / 16) (x % 16) → y (x % 16) + 1 ≤ y (x / 16))) → wX55_layer_42 K nd f c (x + 1) y := fun q => by
    refine ih _ _ _ ⟨by omega, y0, yl, hc.elim (fun ⟨e, ey, hs⟩ => Or.inl ⟨e, ey, fun a b a0 a1 b0 b1 h => ?_⟩) Or.inr⟩ (by omega)
    by_cases z : 16 * a + b = x
    · have e1 : a = x / 16 := by omega
      have e2 : b = x % 16 := by omega
      rw [ey] at q
      rw [e1, e2]; exact q
    · exact hs a b a0 a1 b0 b1 (by omega)
  refine ⟨fun n0 => ⟨by omega, fun x2 ex => ?_⟩, fun n0 => ⟨by omega, fun lt y2 e2 => ⟨by omega, fun x2 ex => ?_⟩, fun ge => ⟨by omega, fun x2 ex => ?_⟩⟩⟩
  · rw [ex]
    refine skip ⟨fun z => ?_, fun z => ?_⟩
    · have := dn.1.2.2 z; omega
    · have := dn.1.1.2 z; omega
  · rw [ex]
    have lg : ∀ g, reSol E X g → least ≤ g (x / 16) := fun g hg => by
      have gb := yl g hg (x % 16) (by omega) (by omega)
      by_cases z : nd x = 2
      · have := hg.2.2 _ _ (dn.1.1.1 z); omega
      · have := hg.2.1 _ _ (dn.1.2.1 (by omega)); omega
    have l15 := lg g0 hg0
    have g15 := hg15 (x / 16) (by omega) (by omega)
    refine ih _ _ _ ⟨by omega, fun a a0 a1 => ?_, fun g hg a a0 a1 => ?_, Or.inr ⟨rfl, ?_⟩⟩ (by omega)
    · rw [e2]
      by_cases z : a = x / 16
      · rw [z, updI_s]; omega
      · rw [updI_n z]; exact y0 a a0 a1
    · rw [e2]
      by_cases z : a = x / 16
      · rw [z, updI_s]; exact lg g hg
      · rw [updI_n z]; exact yl g hg a a0 a1
    · rw [e2, suI_u, if_pos (by omega)]
      rcases hc with ⟨_, ey, _⟩ | ⟨_, hs⟩
      · rw [ey] at lt ⊢; omega
      · omega
  · rw [ex]
    refine skip ⟨fun z => ?_, fun z => ?_⟩
    · have := dn.1.2.2 z; omega
    · have := dn.1.1.2 z; omega
theorem T55_layer {post : (Int → Int) → Prop} (hN : reNd X E nd) (hE : ∀ a b, E a b → (0 ≤ a ∧ a < 16) ∧ 0 ≤ b ∧ b < 16) (hX : ∀ a b, X a b → E a b) (h1 : 0 ≤ reCi E X → ∀ s, (∀ a, 0 ≤ a → a < 16 → s a = 0) → post s) (h0 : reCi E X = -1 → ∀ s, reLs E X s → (∀ a, 0 ≤ a → a < 16 → s a ≤ 15) → post s) : wpX55_layer post st (reCi E X) nd := by
  unfold wpX55_layer
  refine wl2 (fun f x y => wX55_layer_2 _ f x y) (fun x y => (0 ≤ x ∧ x ≤ 16) ∧ ∀ i, 0 ≤ i → i < x → y i = 0) (fun x _ => (16 - x).toNat) ?_ 0 st ⟨by decide, fun i i0 i1 => by omega⟩
  rintro x y ⟨hx, hy⟩ f ih
  rw [wX55_layer_2]
  refine ⟨fun w => ?_, fun w => ⟨by omega, fun y2 e2 => ⟨by omega, fun x2 ex => ?_⟩⟩⟩
  rotate_left
  · subst ex
    refine ih _ _ ⟨by omega, fun i i0 i1 => ?_⟩ (by omega)
    rw [e2]
    by_cases z : i = x
    · rw [z, updI_s]
    · rw [updI_n z]; exact hy i i0 (by omega)
  have y0 : ∀ a, 0 ≤ a → a < 16 → y a = 0 := fun a a0 a1 => hy a a0 (by omega)
  refine ⟨fun c0 => ⟨1, ?_⟩, fun c0 => ?_⟩
  · rw [wX55_layer_34]
    exact ⟨fun _ => h1 c0 y y0, fun z => absurd rfl z⟩
  have cm1 : reCi E X = -1 := by
    have fb := (fstI_s (reQ E X) 16).1.1
    unfold reCi at c0 ⊢
    by_cases w2 : fstI (reQ E X) 16 < 16
    · rw [if_pos w2] at c0; omega
    · rw [if_neg w2]
  have hs := reRk_s hE hX cm1
  have hx15 : ∃ g, reSol E X g ∧ ∀ a, 0 ≤ a → a < 16 → g a ≤ 15 := ⟨reRk E, hs, fun a a0 a1 => (reRk_b ⟨a0, a1⟩).2⟩
  refine wl2 (fun f c s => wX55_layer_34 _ nd f c s) (fun c s => (c = 0 ∧ reLs E X s ∧ ∀ a, 0 ≤ a → a < 16 → s a ≤ 15) ∨ (c = 1 ∧ (∀ a, 0 ≤ a → a < 16 → 0 ≤ s a ∧ s a ≤ 15) ∧ ∀ g, reSol E X g → ∀ a, 0 ≤ a → a < 16 → s a ≤ g a)) (fun c s => if c = 0 then 0 else (241 - suI s 16).toNat) ?_ 1 y (Or.inr ⟨rfl, fun a a0 a1 => by rw [y0 a a0 a1]; decide, fun g hg a a0 a1 => by rw [y0 a a0 a1]; exact hg.1 a a0 a1⟩)
  rintro c s hcs f ih
  rw [wX55_layer_34]
  refine ⟨fun e => ?_, fun e => ?_⟩
  · rcases hcs with ⟨_, h⟩ | ⟨e2, _⟩
    · exact h0 cm1 s h.1 h.2
    · omega
  · rcases hcs with ⟨e2, _⟩ | ⟨ec, hb, hl⟩
    · exact absurd e2 e
    have sb := suI_b (m := 15) 16 (fun a a0 a1 => hb a a0 a1)
    refine T55_l42 hN hE hX hb hl hx15 (fun ls => ih 0 s (Or.inl ⟨rfl, ls, fun a a0 a1 => (hb a a0 a1).2⟩) ?_) (fun s' h1' h2' h3' => ih 1 s' (Or.inr ⟨rfl, h1', h2'⟩) ?_)
    · rw [if_pos rfl, if_neg e]
      omega
    · have sb' := suI_b (m := 15) 16 (fun a a0 a1 => h1' a a0 a1)
      rw [if_neg (by decide), if_neg e]
      omega
end

/-! RuleEngine, the reference (X55): work, plain parts, cases -/
/-- facts of a name -/
noncomputable def reFo (rn : Int → Int) (nm : Int) : Int := cntI (fun i => 0 ≤ rn (1024 * nm + i)) 1024
noncomputable def rePr (pt rn : Int → Int) (r : Int) : Nat → Int
  | 0 => 1
  | k + 1 => if pt (20 * r + 4 * k) = 0 then rePr pt rn r k * reFo rn (pt (20 * r + 4 * k + 1)) else rePr pt rn r k
/-- the rules that are looked at: all with s < 0 -/
def reSel (hd kd fo ln pt st : Int → Int) (s r : Int) : Prop := reSf hd kd fo ln pt r ∧ (s < 0 ∨ st (hd (3 * r)) = s)
noncomputable def reWk (hd kd fo ln pt st rn : Int → Int) (s w : Int) : Nat → Int
  | 0 => w
  | r + 1 => pif (reSel hd kd fo ln pt st s r) (reWk hd kd fo ln pt st rn s w r + rePr pt rn r (ln r).toNat) (reWk hd kd fo ln pt st rn s w r)
def reVl (vs : Int → Int) (i : Int) : Int := if i < 0 then vs (-1 - i) else i
/-- an item is told a number -/
def reB1 (i v : Int) (vs : Int → Int) : Option (Int → Int) := if i < 0 then (if vs (-1 - i) = -1 ∨ vs (-1 - i) = v then some (updI vs (-1 - i) v) else none) else if i = v then some vs else none
def reBc (x y c : Int) (vs : Int → Int) : Option (Int → Int) := (reB1 x (c / 32 % 32) vs).bind (reB1 y (c % 32))
/-- filters, and parts with NOT -/
def rePs (ln pt : Int → Int) (F : Int → Prop) (r : Int) (vs : Int → Int) : Prop := ∀ k, 0 ≤ k → k < ln r →
  (pt (20 * r + 4 * k) = 1 → ¬ F (reCd (pt (20 * r + 4 * k + 1)) (reVl vs (pt (20 * r + 4 * k + 2))) (reVl vs (pt (20 * r + 4 * k + 3))))) ∧
  (pt (20 * r + 4 * k) = 2 → if pt (20 * r + 4 * k + 1) = 0 then reVl vs (pt (20 * r + 4 * k + 2)) < reVl vs (pt (20 * r + 4 * k + 3)) else if pt (20 * r + 4 * k + 1) = 1 then ¬ reVl vs (pt (20 * r + 4 * k + 2)) = reVl vs (pt (20 * r + 4 * k + 3)) else reVl vs (pt (20 * r + 4 * k + 3)) = reVl vs (pt (20 * r + 4 * k + 2)) + 1)
/-- cases from a code on -/
noncomputable def caC (G : (Int → Int) → List (Int → Int)) (F : Int → Prop) (x y : Int) : Nat → Int → (Int → Int) → List (Int → Int)
  | 0, _, _ => []
  | n + 1, c, v => pif (F c) (match reBc x y c v with | some w => G w | none => []) [] ++ caC G F x y n (c + 1) v
/-- cases of the last j parts -/
noncomputable def caQ (ln pt : Int → Int) (F P : Int → Prop) (r : Int) : Nat → (Int → Int) → List (Int → Int)
  | 0, v => pif (rePs ln pt P r v) [v] []
  | j + 1, v => if pt (20 * r + 4 * (ln r - (j + 1))) = 0 then caC (caQ ln pt F P r j) F (pt (20 * r + 4 * (ln r - (j + 1)) + 2)) (pt (20 * r + 4 * (ln r - (j + 1)) + 3)) 1024 (1024 * pt (20 * r + 4 * (ln r - (j + 1)) + 1)) v else caQ ln pt F P r j v
/-- all cases of a rule -/
noncomputable def reCs (ln pt : Int → Int) (F : Int → Prop) (r : Int) : List (Int → Int) := caQ ln pt F F r (ln r).toNat (fun _ => -1)
def reOl (rn fr : Int → Int) (now c : Int) : Prop := (0 ≤ c ∧ c < 16384) ∧ 0 ≤ rn c ∧ (now < 0 ∨ ¬ fr c = now)
section
variable {hd kd fo ln pt st rn fr vs pn po : Int → Int} {n r k v a b c x y s w now : Int} {A B : Prop} {F : Int → Prop} {post : Int → Prop}
theorem reFo_b : 0 ≤ reFo rn a ∧ reFo rn a ≤ 1024 := cntI_b _ 1024
theorem rePr_b : ∀ k : Nat, 0 ≤ rePr pt rn r k ∧ rePr pt rn r k ≤ 1024 ^ k
  | 0 => by unfold rePr; decide
  | k + 1 => by
    have ih := rePr_b k
    have f := reFo_b (rn := rn) (a := pt (20 * r + 4 * k + 1))
    have p : (1024 : Int) ^ (k + 1) = 1024 ^ k * 1024 := Int.pow_succ _ _
    rw [rePr]
    split
    · refine ⟨Int.mul_nonneg ih.1 f.1, ?_⟩
      rw [p]
      exact Int.mul_le_mul ih.2 f.2 f.1 (by omega)
    · omega
theorem T55_factsOf (ha : 0 ≤ a ∧ a < 16) (hp : post (reFo rn a)) : wpX55_factsOf post rn a := by
  unfold wpX55_factsOf
  refine ⟨by omega, fun x ex => ?_⟩
  rw [ex]
  unfold reFo at hp
  refine wl2 (fun f c x => wX55_factsOf_9 _ a rn f c x) (fun c x => (1024 * a ≤ x ∧ x ≤ 1024 * a + 1024) ∧ c = cntI (fun i => 0 ≤ rn (1024 * a + i)) (x - 1024 * a).toNat) (fun _ x => (1024 * a + 1024 - x).toNat) ?_ 0 (1024 * a) ⟨by omega, by rw [show (1024 * a - 1024 * a).toNat = 0 by omega]; unfold cntI; rfl⟩
  rintro c x ⟨hx, ec⟩ f ih
  rw [wX55_factsOf_9]
  have cb := cntI_b (fun i => 0 ≤ rn (1024 * a + i)) (x - 1024 * a).toNat
  refine ⟨by omega, fun w => ?_, fun w => ⟨by omega, fun z => ⟨by omega, fun c2 e2 => ⟨by omega, fun x2 ex2 => ?_⟩⟩, fun z => ⟨by omega, fun c2 e2 => ⟨by omega, fun x2 ex2 => ?_⟩⟩⟩⟩
  · rw [ec, show (x - 1024 * a).toNat = 1024 by omega]; exact hp
  · rw [ex2, e2]
    refine ih _ _ ⟨by omega, ?_⟩ (by omega)
    rw [show x + 1 - 1024 * a = (x - 1024 * a) + 1 by omega, cntI_f (by omega) (by rw [show 1024 * a + (x - 1024 * a) = x by omega]; omega), ec, Int.add_zero]
  · rw [ex2, e2]
    refine ih _ _ ⟨by omega, ?_⟩ (by omega)
    rw [show x + 1 - 1024 * a = (x - 1024 * a) + 1 by omega, cntI_t (by omega) (by rw [show 1024 * a + (x - 1024 * a) = x by omega]; omega), ec]
theorem re1024 : ∀ k : Nat, k ≤ 5 → (1024 : Int) ^ k ≤ 1125899906842624 := by decide
theorem T55_aw47 {K : Int → Prop} (I : reI hd kd fo ln pt n) (hr : 0 ≤ r ∧ r < n) (hp : K (rePr pt rn r (ln r).toNat)) : ∃ fu : Nat, wX55_addWork_47 K r ln pt rn fu 1 0 := by
  have hn := I.1
  obtain ⟨_, _, hl, i4⟩ := I.2 r hr.1 hr.2
  refine wl2 (fun f a k => wX55_addWork_47 K r ln pt rn f a k) (fun a k => (0 ≤ k ∧ k ≤ ln r) ∧ a = rePr pt rn r k.toNat) (fun _ k => (ln r - k).toNat) ?_ 1 0 ⟨by omega, rfl⟩
  rintro a k ⟨hk, ea⟩ f ih
  rw [wX55_addWork_47]
  have ek : ((k.toNat : Nat) : Int) = k := by omega
  have es : rePr pt rn r (k + 1).toNat = if pt (20 * r + 4 * k) = 0 then rePr pt rn r k.toNat * reFo rn (pt (20 * r + 4 * k + 1)) else rePr pt rn r k.toNat := by
    rw [show (k + 1).toNat = k.toNat + 1 by omega, rePr, ek]
  refine ⟨by omega, fun w => ?_, fun w => ⟨by omega, fun at_ eat => ?_⟩⟩
  · rw [ea, show k.toNat = (ln r).toNat by omega]; exact hp
  subst eat
  obtain ⟨p1, p2, _⟩ := i4 k hk.1 (by omega)
  have pb := rePr_b (pt := pt) (rn := rn) (r := r) (k + 1).toNat
  have p5 := re1024 (k + 1).toNat (by omega)
  refine ⟨by omega, fun z => ⟨by omega, T55_factsOf p2 ⟨?_, fun a2 e2 => ⟨by omega, fun k2 ek2 => ?_⟩⟩⟩, fun z => ⟨by omega, fun k2 ek2 => ?_⟩⟩
  · rw [if_pos z, ← ea] at es
    rw [← es]; omega
  · rw [ek2, e2]
    rw [if_pos z, ← ea] at es
    exact ih _ _ ⟨by omega, es.symm⟩ (by omega)
  · rw [ek2]
    rw [if_neg z, ← ea] at es
    exact ih _ _ ⟨by omega, es.symm⟩ (by omega)
theorem reWk_b (I : reI hd kd fo ln pt n) : ∀ k : Nat, (k : Int) ≤ n → w ≤ reWk hd kd fo ln pt st rn s w k ∧ reWk hd kd fo ln pt st rn s w k ≤ w + k * 1125899906842624
  | 0, _ => by unfold reWk; omega
  | k + 1, hk => by
    have ih := reWk_b I k (by omega)
    have hl := (I.2 k (by omega) (by omega)).2.2.1
    have pb := rePr_b (pt := pt) (rn := rn) (r := k) (ln k).toNat
    have p5 := re1024 (ln k).toNat (by omega)
    rw [reWk]
    by_cases z : reSel hd kd fo ln pt st s k
    · rw [pif_t z]; omega
    · rw [pif_f z]; omega
theorem T55_addWork {post : Int → Int → Prop} (I : reI hd kd fo ln pt n) (hst : s < 0 ∨ ∀ a, 0 ≤ a → a < 16 → 0 ≤ st a) (hw : 0 ≤ w ∧ w ≤ 200000) (hp : post (reWk hd kd fo ln pt st rn s w n.toNat) (if reWk hd kd fo ln pt st rn s w n.toNat ≤ 200000 then 0 else 1)) : wpX55_addWork post hd kd fo ln pt n rn st w s := by
  have hn := I.1
  have go : ∀ (j m : Nat), (m : Int) + j = n → wX55_addWork_2 (fun (f_worked_55 : Int) => ((f_worked_55 ≤ 200000 → (post f_worked_55 0)) ∧ (¬ f_worked_55 ≤ 200000 → (post f_worked_55 1)))) s hd kd fo ln pt n rn st (j + 1) m (reWk hd kd fo ln pt st rn s w m) := fun j => by
    induction j with
    | zero =>
      intro m hm
      rw [wX55_addWork_2]
      have e : m = n.toNat := by omega
      subst e
      refine ⟨fun _ => ⟨fun z => ?_, fun z => ?_⟩, fun z => absurd (by omega) z⟩
      · rw [if_pos z] at hp; exact hp
      · rw [if_neg z] at hp; exact hp
    | succ j ih =>
      intro m hm
      rw [wX55_addWork_2]
      have J := ih (m + 1) (by omega)
      rw [show ((m + 1 : Nat) : Int) = (m : Int) + 1 by omega] at J
      have eW : reWk hd kd fo ln pt st rn s w (m + 1) = pif (reSel hd kd fo ln pt st s m) (reWk hd kd fo ln pt st rn s w m + rePr pt rn m (ln m).toNat) (reWk hd kd fo ln pt st rn s w m) := rfl
      have wb := reWk_b I (w := w) (st := st) (rn := rn) (s := s) (m + 1) (by omega)
      have hd0 := (I.2 m (by omega) (by omega)).1.1
      refine ⟨fun z => by omega, fun _ => T55_isSafeB I ⟨by omega, by omega⟩ (fun sf => ⟨fun s0 => T55_aw47 I ⟨by omega, by omega⟩ ?_, fun s0 => ⟨by omega, by omega, fun e => T55_aw47 I ⟨by omega, by omega⟩ ?_, fun e => ⟨by omega, fun x2 ex => ?_⟩⟩⟩) (fun sf => ⟨by omega, fun x2 ex => ?_⟩)⟩
      · rw [pif_t ⟨sf, Or.inl s0⟩] at eW
        rw [eW] at J wb
        exact ⟨by omega, fun w2 e2 => ⟨by omega, fun x2 ex => by rw [ex, e2]; exact J⟩⟩
      · rw [pif_t ⟨sf, Or.inr e⟩] at eW
        rw [eW] at J wb
        exact ⟨by omega, fun w2 e2 => ⟨by omega, fun x2 ex => by rw [ex, e2]; exact J⟩⟩
      · rw [pif_f (fun z => z.2.elim s0 e)] at eW
        rw [eW] at J
        rw [ex]; exact J
      · rw [pif_f (fun z => sf z.1)] at eW
        rw [eW] at J
        rw [ex]; exact J
  unfold wpX55_addWork
  exact ⟨_, go n.toNat 0 (by omega)⟩
/-- plain parts in their order -/
def rePn (ln pt : Int → Int) (r m : Int) (pn : Int → Int) (L : Int) : Prop := (0 ≤ m ∧ m ≤ L) ∧ (∀ i, 0 ≤ i → i < m → (0 ≤ pn i ∧ pn i < L) ∧ pt (20 * r + 4 * pn i) = 0) ∧ (∀ i j, 0 ≤ i → i < j → j < m → pn i < pn j) ∧ ∀ k, 0 ≤ k → k < L → pt (20 * r + 4 * k) = 0 → ∃ i, (0 ≤ i ∧ i < m) ∧ pn i = k
theorem T55_begin {post : (Int → Int) → Int → (Int → Int) → Prop} (I : reI hd kd fo ln pt n) (hr : 0 ≤ r ∧ r < n) (hp : ∀ pn' m, rePn ln pt r m pn' (ln r) → post pn' m (if m ≤ 0 then po else updI po 0 (1024 * pt (20 * r + 4 * pn' 0 + 1) - 1))) : wpX55_begin post ln pt pn po r := by
  have hn := I.1
  obtain ⟨_, _, hl, i4⟩ := I.2 r hr.1 hr.2
  unfold wpX55_begin
  refine wl3 (fun f x p m => wX55_begin_7 _ r ln pt f x p m) (fun x p m => (0 ≤ x ∧ x ≤ ln r) ∧ rePn ln pt r m p x) (fun x _ _ => (ln r - x).toNat) ?_ 0 pn 0 ⟨by omega, by omega, fun i i0 i1 => by omega, fun i j i0 i1 i2 => by omega, fun k k0 k1 => by omega⟩
  rintro x p m ⟨hx, hm, h1, h2, h3⟩ f ih
  rw [wX55_begin_7]
  refine ⟨by omega, fun w => ?_, fun w => ⟨by omega, fun z => ⟨by omega, fun p2 e2 => ⟨by omega, fun m2 em => ⟨by omega, fun x2 ex => ?_⟩⟩⟩, fun z => ⟨by omega, fun x2 ex => ?_⟩⟩⟩
  · have e : x = ln r := by omega
    rw [e] at hm h1 h3
    have H := hp p m ⟨hm, h1, h2, h3⟩
    refine ⟨fun m0 => ?_, fun m0 => ?_⟩
    · rw [if_pos m0] at H; exact H
    · rw [if_neg m0] at H
      have q := h1 0 (Int.le_refl 0) (by omega)
      have q2 := (i4 (p 0) q.1.1 q.1.2).2.1
      exact ⟨by omega, by omega, fun v ev p3 e3 => by rw [e3, ev]; exact H⟩
  · rw [ex, em]
    refine ih _ _ _ ⟨by omega, by omega, fun i i0 i1 => ?_, fun i j i0 i1 i2 => ?_, fun k k0 k1 e => ?_⟩ (by omega)
    · rw [e2]
      by_cases q : i = m
      · rw [q, updI_s]; exact ⟨by omega, z⟩
      · rw [updI_n q]
        have := h1 i i0 (by omega)
        exact ⟨by omega, this.2⟩
    · rw [e2, updI_n (show i ≠ m by omega)]
      by_cases q : j = m
      · rw [q, updI_s]; exact (h1 i i0 (by omega)).1.2
      · rw [updI_n q]; exact h2 i j i0 i1 (by omega)
    · rw [e2]
      by_cases q : k = x
      · exact ⟨m, by omega, by rw [updI_s, q]⟩
      · obtain ⟨i, hi, e3⟩ := h3 k k0 (by omega) e
        exact ⟨i, by omega, by rw [updI_n (show i ≠ m by omega)]; exact e3⟩
  · rw [ex]
    refine ih _ _ _ ⟨by omega, by omega, fun i i0 i1 => ?_, h2, fun k k0 k1 e => ?_⟩ (by omega)
    · have := h1 i i0 i1
      exact ⟨by omega, this.2⟩
    · by_cases q : k = x
      · rw [q] at e; exact absurd e z
      · exact h3 k k0 (by omega) e
theorem T55_isOldB (hc : 0 ≤ c ∧ c < 16384) (h1 : reOl rn fr now c → B) (h0 : ¬ reOl rn fr now c → A) : wpX55_isOld (fun x => (x = 0 → A) ∧ (¬ x = 0 → B)) rn now fr c := by
  unfold wpX55_isOld
  unfold reOl at h1 h0
  refine ⟨hc, fun z => ⟨fun _ => h0 (by omega), fun q => absurd rfl q⟩, fun z => ⟨fun n0 => ⟨fun q => absurd q (by decide), fun _ => h1 ⟨hc, by omega, Or.inl n0⟩⟩, fun n0 => ⟨fun e => ⟨fun _ => h0 (fun q => q.2.2.elim n0 (fun w => w e)), fun q => absurd rfl q⟩, fun e => ⟨fun q => absurd q (by decide), fun _ => h1 ⟨hc, by omega, Or.inr e⟩⟩⟩⟩⟩
theorem T55_valueOf (hi : reIt a) (hp : post (reVl vs a)) : wpX55_valueOf post vs a := by
  unfold wpX55_valueOf
  unfold reIt at hi
  unfold reVl at hp
  refine ⟨fun z => ⟨by omega, ?_⟩, fun z => ?_⟩
  · rw [if_pos z] at hp; exact hp
  · rw [if_neg z] at hp; exact hp
/-- what parts that are not plain ask of the values -/
def reOk (ln pt : Int → Int) (r : Int) (vs : Int → Int) : Prop := ∀ k, 0 ≤ k → k < ln r → ¬ pt (20 * r + 4 * k) = 0 → (0 ≤ reVl vs (pt (20 * r + 4 * k + 2)) ∧ reVl vs (pt (20 * r + 4 * k + 2)) < 32) ∧ 0 ≤ reVl vs (pt (20 * r + 4 * k + 3)) ∧ reVl vs (pt (20 * r + 4 * k + 3)) < 32
theorem T55_passesB (I : reI hd kd fo ln pt n) (hr : 0 ≤ r ∧ r < n) (hv : reOk ln pt r vs) (h1 : rePs ln pt (reOl rn fr now) r vs → B) (h0 : ¬ rePs ln pt (reOl rn fr now) r vs → A) : wpX55_passes (fun x => (x = 0 → A) ∧ (¬ x = 0 → B)) ln pt rn vs now fr r := by
  have hn := I.1
  obtain ⟨_, _, hl, i4⟩ := I.2 r hr.1 hr.2
  unfold wpX55_passes
  refine wl2 (fun f s k => wX55_passes_4 _ r ln pt rn vs now fr f s k) (fun s k => (0 ≤ k ∧ k ≤ ln r) ∧ ((s = 0 ∧ ¬ rePs ln pt (reOl rn fr now) r vs) ∨ (s = 1 ∧ ∀ j, 0 ≤ j → j < k → (pt (20 * r + 4 * j) = 1 → ¬ (reOl rn fr now) (reCd (pt (20 * r + 4 * j + 1)) (reVl vs (pt (20 * r + 4 * j + 2))) (reVl vs (pt (20 * r + 4 * j + 3))))) ∧
  (pt (20 * r + 4 * j) = 2 → if pt (20 * r + 4 * j + 1) = 0 then reVl vs (pt (20 * r + 4 * j + 2)) < reVl vs (pt (20 * r + 4 * j + 3)) else if pt (20 * r + 4 * j + 1) = 1 then ¬ reVl vs (pt (20 * r + 4 * j + 2)) = reVl vs (pt (20 * r + 4 * j + 3)) else reVl vs (pt (20 * r + 4 * j + 3)) = reVl vs (pt (20 * r + 4 * j + 2)) + 1)))) (fun _ k => (ln r - k).toNat) ?_ 1 0 ⟨by omega, Or.inr ⟨rfl, fun j j0 j1 => by omega⟩⟩
  rintro s k ⟨hk, hs⟩ f ih
  rw [wX55_passes_4]
  refine ⟨by omega, fun w => ?_, fun w => ⟨fun s0 => ?_, fun s1 => ⟨by omega, fun at_ eat => ?_⟩⟩⟩
  · rcases hs with ⟨e, y⟩ | ⟨e, c⟩
    · exact ⟨Or.inl e, fun _ => h0 y, fun z => absurd e z⟩
    · exact ⟨Or.inr e, fun z => by omega, fun _ => h1 (fun j j0 j1 => c j j0 (by omega))⟩
  · rcases hs with ⟨e, y⟩ | ⟨e, _⟩
    · exact ⟨Or.inl e, fun _ => h0 y, fun z => absurd e z⟩
    · omega
  subst eat
  rcases hs with ⟨e, _⟩ | ⟨e, c⟩
  · exact absurd e s1
  obtain ⟨p1, p2, p3, p4⟩ := i4 k hk.1 (by omega)
  have vk := hv k hk.1 (by omega)
  refine ⟨by omega, T55_valueOf p3 ⟨by omega, T55_valueOf p4 ?_⟩⟩
  generalize eX : reVl vs (pt (20 * r + 4 * k + 2)) = X at vk
  generalize eY : reVl vs (pt (20 * r + 4 * k + 3)) = Y at vk
  have bad : ¬ ((pt (20 * r + 4 * k) = 1 → ¬ (reOl rn fr now) (reCd (pt (20 * r + 4 * k + 1)) X Y)) ∧ (pt (20 * r + 4 * k) = 2 → if pt (20 * r + 4 * k + 1) = 0 then X < Y else if pt (20 * r + 4 * k + 1) = 1 then ¬ X = Y else Y = X + 1)) → wX55_passes_4 (fun (x2_63 : Int) => (x2_63 = 0 ∨ x2_63 = 1) ∧ ((x2_63 = 0 → A) ∧ (¬ x2_63 = 0 → B))) r ln pt rn vs now fr f 0 (k + 1) := fun z => by
    refine ih 0 (k + 1) ⟨by omega, Or.inl ⟨rfl, fun q => z ?_⟩⟩ (by omega)
    have := q k hk.1 (by omega)
    rw [eX, eY] at this; exact this
  have good : ((pt (20 * r + 4 * k) = 1 → ¬ (reOl rn fr now) (reCd (pt (20 * r + 4 * k + 1)) X Y)) ∧ (pt (20 * r + 4 * k) = 2 → if pt (20 * r + 4 * k + 1) = 0 then X < Y else if pt (20 * r + 4 * k + 1) = 1 then ¬ X = Y else Y = X + 1)) → wX55_passes_4 (fun (x2_63 : Int) => (x2_63 = 0 ∨ x2_63 = 1) ∧ ((x2_63 = 0 → A) ∧ (¬ x2_63 = 0 → B))) r ln pt rn vs now fr f 1 (k + 1) := fun z => by
    refine ih 1 (k + 1) ⟨by omega, Or.inr ⟨rfl, fun j j0 j1 => ?_⟩⟩ (by omega)
    by_cases q : j = k
    · rw [q, eX, eY]; exact z
    · exact c j j0 (by omega)
  have zr1 : ¬ pt (20 * r + 4 * k) = 0 → zR (X + 1) := fun z => by have := vk z; omega
  refine ⟨by omega, fun e1 => ⟨by omega, ?_⟩, fun e1 => ?_⟩
  · have fc : reFc (pt (20 * r + 4 * k + 1)) X Y := ⟨p2, (vk (by omega)).1, (vk (by omega)).2⟩
    refine T55_code fc (T55_isOldB (reCd_b fc) (fun o => ?_) (fun o => ?_))
    · unfold wX55_passes_98
      refine ⟨by omega, fun z => by omega, fun _ => ⟨by omega, fun k2 ek => ?_⟩⟩
      rw [ek]; exact bad (fun z => z.1 e1 o)
    · unfold wX55_passes_98
      refine ⟨by omega, fun z => by omega, fun _ => ⟨by omega, fun k2 ek => ?_⟩⟩
      rw [ek]; exact good ⟨fun _ => o, fun z => by omega⟩
  · unfold wX55_passes_98
    have s1' : s = 1 := e
    refine ⟨by omega, fun e2 => ⟨by omega, fun w0 => ⟨fun q => ⟨by omega, fun k2 ek => ?_⟩, fun q => ⟨by omega, fun k2 ek => ?_⟩⟩, fun w0 => ⟨fun w1 => ⟨fun q => ⟨by omega, fun k2 ek => ?_⟩, fun q => ⟨by omega, fun k2 ek => ?_⟩⟩, fun w1 => ⟨zr1 (by omega), fun q => ⟨by omega, fun k2 ek => ?_⟩, fun q => ⟨by omega, fun k2 ek => ?_⟩⟩⟩⟩, fun e2 => ⟨by omega, fun k2 ek => ?_⟩⟩
    · rw [ek]; exact bad (fun z => by have := z.2 e2; rw [if_pos w0] at this; omega)
    · rw [ek]; exact good ⟨fun z => absurd z e1, fun _ => by rw [if_pos w0]; omega⟩
    · rw [ek]; exact bad (fun z => by have := z.2 e2; rw [if_neg w0, if_pos w1] at this; omega)
    · rw [ek]; exact good ⟨fun z => absurd z e1, fun _ => by rw [if_neg w0, if_pos w1]; exact q⟩
    · rw [ek]; exact good ⟨fun z => absurd z e1, fun _ => by rw [if_neg w0, if_neg w1]; exact q⟩
    · rw [ek]; exact bad (fun z => by have := z.2 e2; rw [if_neg w0, if_neg w1] at this; omega)
    · rw [ek, s1']; exact good ⟨fun z => absurd z e1, fun z => absurd z e2⟩
end

/-! RuleEngine, the reference (X55): cases one after the other -/
def re6 (v w : Int → Int) : Prop := ∀ i, 0 ≤ i → i < 6 → v i = w i
theorem reVl_c {v w : Int → Int} (h : re6 v w) {i : Int} (hi : reIt i) : reVl v i = reVl w i := by
  unfold reVl
  unfold reIt at hi
  split
  · exact h _ (by omega) (by omega)
  · rfl
theorem reB1_c {v w : Int → Int} (h : re6 v w) {i x : Int} (hi : reIt i) : (∃ v' w', reB1 i x v = some v' ∧ reB1 i x w = some w' ∧ re6 v' w') ∨ (reB1 i x v = none ∧ reB1 i x w = none) := by
  unfold reB1
  unfold reIt at hi
  by_cases a : i < 0
  · rw [if_pos a, if_pos a, h (-1 - i) (by omega) (by omega)]
    by_cases b : w (-1 - i) = -1 ∨ w (-1 - i) = x
    · rw [if_pos b, if_pos b]
      refine Or.inl ⟨_, _, rfl, rfl, fun j j0 j1 => ?_⟩
      rw [updI_e, updI_e]
      split
      · rfl
      · exact h j j0 j1
    · rw [if_neg b, if_neg b]; exact Or.inr ⟨rfl, rfl⟩
  · rw [if_neg a, if_neg a]
    by_cases b : i = x
    · rw [if_pos b, if_pos b]; exact Or.inl ⟨_, _, rfl, rfl, h⟩
    · rw [if_neg b, if_neg b]; exact Or.inr ⟨rfl, rfl⟩
/-- values told by the first d pointers -/
def reTl (pt pn po : Int → Int) (r : Int) : Nat → Option (Int → Int)
  | 0 => some (fun _ => -1)
  | d + 1 => (reTl pt pn po r d).bind (reBc (pt (20 * r + 4 * pn d + 2)) (pt (20 * r + 4 * pn d + 3)) (po d))
theorem reTl_c {pt pn po po' : Int → Int} {r : Int} : ∀ d : Nat, (∀ i : Int, 0 ≤ i → i < d → po i = po' i) → reTl pt pn po r d = reTl pt pn po' r d
  | 0, _ => rfl
  | d + 1, h => by rw [reTl, reTl, reTl_c d (fun i i0 i1 => h i i0 (by omega)), h d (by omega) (by omega)]
section
variable {hd kd fo ln pt st rn fr vs pn po w w' : Int → Int} {n r k v a b c x y s now m : Int} {A B : Prop} {F : Int → Prop} {post : Int → Prop}
theorem reB1_v (hx : 0 ≤ x) (h : reB1 a x w = some w') : reVl w' a = x ∧ ∀ j, 0 ≤ reVl w j → reVl w' j = reVl w j := by
  unfold reB1 at h
  unfold reVl
  by_cases z : a < 0
  · rw [if_pos z] at h
    by_cases q : w (-1 - a) = -1 ∨ w (-1 - a) = x
    · rw [if_pos q] at h
      cases h
      refine ⟨by rw [if_pos z, updI_s], fun j hj => ?_⟩
      by_cases zj : j < 0
      · rw [if_pos zj] at hj ⊢
        rw [if_pos zj, updI_e]
        by_cases e : -1 - j = -1 - a
        · rw [if_pos e, e]
          rw [e] at hj
          omega
        · rw [if_neg e]
      · rw [if_neg zj, if_neg zj]
    · rw [if_neg q] at h; exact absurd h (by simp)
  · rw [if_neg z] at h
    by_cases q : a = x
    · rw [if_pos q] at h
      cases h
      exact ⟨by rw [if_neg z]; exact q, fun j _ => rfl⟩
    · rw [if_neg q] at h; exact absurd h (by simp)
theorem reBc_v (hc : 0 ≤ c) (h : reBc x y c w = some w') : (reVl w' x = c / 32 % 32 ∧ reVl w' y = c % 32) ∧ ∀ j, 0 ≤ reVl w j → reVl w' j = reVl w j := by
  unfold reBc at h
  cases h1 : reB1 x (c / 32 % 32) w with
  | none => rw [h1] at h; exact absurd h (by simp)
  | some w1 =>
    rw [h1] at h
    have h2 : reB1 y (c % 32) w1 = some w' := h
    have b1 := reB1_v (by omega) h1
    have b2 := reB1_v (by omega) h2
    refine ⟨⟨?_, b2.1⟩, fun j hj => ?_⟩
    · rw [b2.2 x (by omega)]; exact b1.1
    · rw [b2.2 j (by rw [b1.2 j hj]; exact hj)]; exact b1.2 j hj
theorem reTl_v : ∀ (d : Nat) (w : Int → Int), (∀ i : Int, 0 ≤ i → i < d → 0 ≤ po i) → reTl pt pn po r d = some w → ∀ i : Int, 0 ≤ i → i < d → (0 ≤ reVl w (pt (20 * r + 4 * pn i + 2)) ∧ reVl w (pt (20 * r + 4 * pn i + 2)) < 32) ∧ 0 ≤ reVl w (pt (20 * r + 4 * pn i + 3)) ∧ reVl w (pt (20 * r + 4 * pn i + 3)) < 32
  | 0, w, _, _, i, i0, i1 => by omega
  | d + 1, w, hp, h, i, i0, i1 => by
    rw [reTl] at h
    cases h1 : reTl pt pn po r d with
    | none => rw [h1] at h; exact absurd h (by simp)
    | some w1 =>
      rw [h1] at h
      have h2 : reBc (pt (20 * r + 4 * pn d + 2)) (pt (20 * r + 4 * pn d + 3)) (po d) w1 = some w := h
      have b := reBc_v (hp d (by omega) (by omega)) h2
      by_cases z : i = d
      · rw [z, b.1.1, b.1.2]; omega
      · have ih := reTl_v d w1 (fun i i0 i1 => hp i i0 (by omega)) h1 i i0 (by omega)
        rw [b.2 _ ih.1.1, b.2 _ ih.2.1]; exact ih
theorem rePs_c {v w : Int → Int} (h : re6 v w) (hi : ∀ k, 0 ≤ k → k < ln r → reIt (pt (20 * r + 4 * k + 2)) ∧ reIt (pt (20 * r + 4 * k + 3))) : rePs ln pt F r v ↔ rePs ln pt F r w := by
  unfold rePs
  refine forall_congr' fun k => ⟨fun q k0 k1 => ?_, fun q k0 k1 => ?_⟩
  · have e1 := reVl_c h (hi k k0 k1).1
    have e2 := reVl_c h (hi k k0 k1).2
    have := q k0 k1
    rw [e1, e2] at this; exact this
  · have e1 := reVl_c h (hi k k0 k1).1
    have e2 := reVl_c h (hi k k0 k1).2
    rw [e1, e2]; exact q k0 k1
theorem T55_t95 {K54 : Int → (Int → Int) → Prop} {K109 K139 : (Int → Int) → Prop} {i : Int} (hi : reIt a) (hk : i = 0 ∨ i = 1) (hn : reB1 a v vs = none → K109 vs ∧ K139 vs) (hs : ∀ vs', reB1 a v vs = some vs' → K54 (i + 1) vs') : wX55_tell_95 K54 K109 K139 i a v vs := by
  unfold reIt at hi
  unfold reB1 at hn hs
  unfold wX55_tell_95 wX55_tell_141
  refine ⟨fun z => ⟨by omega, ?_⟩, fun z => ?_⟩
  · rw [if_pos z] at hn hs
    have ok : (vs (-1 - a) = -1 ∨ vs (-1 - a) = v) → ((0 ≤ a → (zR (i + 1) ∧ (∀ x6_35 : Int, x6_35 = i + 1 → (K54 x6_35 vs)))) ∧ (¬ 0 ≤ a → ((0 ≤ ((-1) - a) ∧ ((-1) - a) < 6) ∧ (∀ f_values_38 : Int → Int, f_values_38 = updI vs ((-1) - a) v → (zR (i + 1) ∧ (∀ x6_41 : Int, x6_41 = i + 1 → (K54 x6_41 f_values_38))))))) := fun q => by
      rw [if_pos q] at hs
      exact ⟨fun w => by omega, fun _ => ⟨by omega, fun v2 e2 => ⟨by omega, fun x2 ex => by rw [ex, e2]; exact hs _ rfl⟩⟩⟩
    refine ⟨fun q => ok (Or.inl q), fun q => ⟨fun q2 => ok (Or.inr q2), fun q2 => ?_⟩⟩
    rw [if_neg (fun w => w.elim q q2)] at hn
    exact (hn rfl).2
  · rw [if_neg z] at hn hs
    refine ⟨fun q => ⟨fun _ => ⟨by omega, fun x2 ex => ?_⟩, fun w => absurd (by omega) w⟩, fun q => ?_⟩
    · rw [if_pos q] at hs
      rw [ex]; exact hs _ rfl
    · rw [if_neg q] at hn
      exact (hn rfl).1
theorem T55_t54 {K109 K139 K163 : (Int → Int) → Prop} {at_ : Int} (hat : 0 ≤ at_ ∧ at_ + 4 ≤ 320) (hi : reIt (pt (at_ + 2)) ∧ reIt (pt (at_ + 3))) (hc : 0 ≤ c) (h6 : re6 vs w) (hn : reBc (pt (at_ + 2)) (pt (at_ + 3)) c w = none → ∀ v', K109 v' ∧ K139 v') (hs : ∀ w' v', reBc (pt (at_ + 2)) (pt (at_ + 3)) c w = some w' → re6 v' w' → K163 v') : ∃ fu : Nat, wX55_tell_54 K109 K139 K163 at_ c pt fu 0 vs := by
  unfold reBc at hn hs
  refine ⟨3, ?_⟩
  rw [wX55_tell_54]
  refine ⟨fun z => absurd z (by decide), fun _ => ⟨by omega, fun i1 e1 => ⟨fun _ => ⟨hc, by omega, ?_⟩, fun z => absurd rfl z⟩⟩⟩
  rw [show at_ + 2 + 0 = at_ + 2 by omega] at e1
  rw [e1]
  have c1 := reB1_c (x := c / 32 % 32) h6 hi.1
  refine T55_t95 hi.1 (Or.inl rfl) (fun e => ?_) (fun v1 ev1 => ?_)
  · rcases c1 with ⟨v', w', a1, a2, _⟩ | ⟨_, a2⟩
    · rw [a1] at e; exact absurd e (by simp)
    · rw [a2] at hn
      exact hn rfl vs
  rcases c1 with ⟨v', w1, a1, a2, h61⟩ | ⟨a1, _⟩
  rotate_left
  · rw [a1] at ev1; exact absurd ev1 (by simp)
  rw [a1] at ev1
  cases ev1
  rw [a2] at hn hs
  have hn' : reB1 (pt (at_ + 3)) (c % 32) w1 = none → ∀ v', K109 v' ∧ K139 v' := hn
  have hs' : ∀ w' v', reB1 (pt (at_ + 3)) (c % 32) w1 = some w' → re6 v' w' → K163 v' := hs
  rw [wX55_tell_54]
  refine ⟨fun z => absurd z (by decide), fun _ => ⟨by omega, fun i2 e2 => ⟨fun z => absurd z (by decide), fun _ => ⟨hc, ?_⟩⟩⟩⟩
  rw [show at_ + 2 + (0 + 1) = at_ + 3 by omega] at e2
  rw [e2]
  have c2 := reB1_c (x := c % 32) h61 hi.2
  refine T55_t95 hi.2 (Or.inr rfl) (fun e => ?_) (fun v2 ev2 => ?_)
  · rcases c2 with ⟨v', w', a1, a2, _⟩ | ⟨_, a2⟩
    · rw [a1] at e; exact absurd e (by simp)
    · exact hn' a2 _
  rcases c2 with ⟨v', w2, a1, a2, h62⟩ | ⟨a1, _⟩
  rotate_left
  · rw [a1] at ev2; exact absurd ev2 (by simp)
  rw [a1] at ev2
  cases ev2
  rw [wX55_tell_54]
  exact ⟨fun _ => hs' w2 _ a2 h62, fun z => absurd (by decide) z⟩
theorem T55_tell {post : Int → (Int → Int) → Prop} {d : Nat} (hd5 : d ≤ 5) (hr : 0 ≤ r ∧ r < 16) (hpn : ∀ i : Int, 0 ≤ i → i < d → (0 ≤ pn i ∧ pn i < 5) ∧ 0 ≤ po i ∧ reIt (pt (20 * r + 4 * pn i + 2)) ∧ reIt (pt (20 * r + 4 * pn i + 3))) (h0 : reTl pt pn po r d = none → ∀ v', post 0 v') (h1 : ∀ w v', reTl pt pn po r d = some w → re6 v' w → post 1 v') : wpX55_tell post pt vs pn po r d := by
  unfold wpX55_tell
  refine wl2 (fun f x y => wX55_tell_2 _ f x y) (fun x y => (0 ≤ x ∧ x ≤ 6) ∧ ∀ i, 0 ≤ i → i < x → y i = -1) (fun x _ => (6 - x).toNat) ?_ 0 vs ⟨by decide, fun i i0 i1 => by omega⟩
  rintro x y ⟨hx, hy⟩ f ih
  rw [wX55_tell_2]
  refine ⟨fun _ => ?_, fun z => ⟨by omega, fun y2 e2 => ⟨by omega, fun x2 ex => ?_⟩⟩⟩
  rotate_left
  · rw [ex]
    refine ih _ _ ⟨by omega, fun i i0 i1 => ?_⟩ (by omega)
    rw [e2]
    by_cases q : i = x
    · rw [q, updI_s]
    · rw [updI_n q]; exact hy i i0 (by omega)
  have go : ∀ (j k : Nat) (y w : Int → Int), k + j = d → reTl pt pn po r k = some w → re6 y w → wX55_tell_23 (fun (f_values_57 : Int → Int) => post 0 f_values_57) (fun (f_values_58 : Int → Int) => post 0 f_values_58) (fun (f_values_59 : Int → Int) => post 1 f_values_59) r d pt pn po (j + 1) k y := fun j => by
    induction j with
    | zero =>
      intro k y w hk e6 h6
      rw [wX55_tell_23]
      have e : k = d := by omega
      subst e
      exact ⟨fun _ => h1 w y e6 h6, fun z => absurd (Int.le_refl _) z⟩
    | succ j ihj =>
      intro k y w hk e6 h6
      rw [wX55_tell_23]
      obtain ⟨q1, q2, q3, q4⟩ := hpn k (by omega) (by omega)
      have eT : reTl pt pn po r (k + 1) = reBc (pt (20 * r + 4 * pn k + 2)) (pt (20 * r + 4 * pn k + 3)) (po k) w := by
        rw [reTl, e6]; rfl
      refine ⟨fun z => by omega, fun _ => ⟨by omega, by omega, fun at_ eat c ec => ?_⟩⟩
      rw [eat, ec]
      refine T55_t54 (w := w) (by omega) ⟨q3, q4⟩ q2 h6 (fun e v' => ?_) (fun w' v' e h => ⟨by omega, fun x2 ex => ?_⟩)
      · have no : reTl pt pn po r d = none := by
          have : ∀ i : Nat, reTl pt pn po r (k + 1 + i) = none := fun i => by
            induction i with
            | zero => rw [← eT] at e; exact e
            | succ i ihi => rw [show k + 1 + (i + 1) = (k + 1 + i) + 1 by omega, reTl, ihi]; rfl
          have := this j
          rw [show k + 1 + j = d by omega] at this; exact this
        exact ⟨h0 no v', h0 no v'⟩
      · have J := ihj (k + 1) v' w' (by omega) (by rw [eT]; exact e) h
        rw [show ((k + 1 : Nat) : Int) = (k : Int) + 1 by omega] at J
        rw [ex]; exact J
  exact ⟨_, go d 0 y (fun _ => -1) (by omega) rfl (fun i i0 i1 => hy i i0 (by omega))⟩
end

/-! RuleEngine, the reference (X55): the next case -/
noncomputable def reAf (ln pt : Int → Int) (F : Int → Prop) (r : Int) (pn : Int → Int) : Nat → (Int → Int) → List (Int → Int)
  | 0 => caQ ln pt F F r (ln r).toNat
  | d + 1 => caQ ln pt F F r (ln r - pn d - 1).toNat
/-- cases behind the pointers -/
noncomputable def reRm (ln pt : Int → Int) (F : Int → Prop) (r : Int) (pn po : Int → Int) : Nat → List (Int → Int)
  | 0 => []
  | d + 1 => (match reTl pt pn po r d with | some v => caC (reAf ln pt F r pn (d + 1)) F (pt (20 * r + 4 * pn d + 2)) (pt (20 * r + 4 * pn d + 3)) (1024 * pt (20 * r + 4 * pn d + 1) + 1023 - po d).toNat (po d + 1) v | none => []) ++ reRm ln pt F r pn po d
/-- how far the pointers are from their ends -/
def reMu (pt : Int → Int) (r : Int) (pn po : Int → Int) (m : Nat) : Nat → Int
  | 0 => 0
  | d + 1 => reMu pt r pn po m d + (1024 * pt (20 * r + 4 * pn d + 1) + 1024 - po d) * 2000 ^ (m - 1 - d)
theorem reRm_c {ln pt : Int → Int} {F : Int → Prop} {r : Int} {pn po po' : Int → Int} : ∀ d : Nat, (∀ i : Int, 0 ≤ i → i < d → po i = po' i) → reRm ln pt F r pn po d = reRm ln pt F r pn po' d
  | 0, _ => rfl
  | d + 1, h => by rw [reRm, reRm, reRm_c d (fun i i0 i1 => h i i0 (by omega)), h d (by omega) (by omega), reTl_c d (fun i i0 i1 => h i i0 (by omega))]
theorem reMu_c {pt : Int → Int} {r : Int} {pn po po' : Int → Int} {m : Nat} : ∀ d : Nat, (∀ i : Int, 0 ≤ i → i < d → po i = po' i) → reMu pt r pn po m d = reMu pt r pn po' m d
  | 0, _ => rfl
  | d + 1, h => by rw [reMu, reMu, reMu_c d (fun i i0 i1 => h i i0 (by omega)), h d (by omega) (by omega)]
theorem reMu_p {pt : Int → Int} {r : Int} {pn po : Int → Int} {m : Nat} : ∀ d : Nat, (∀ i : Int, 0 ≤ i → i < d → po i ≤ 1024 * pt (20 * r + 4 * pn i + 1) + 1024) → 0 ≤ reMu pt r pn po m d
  | 0, _ => by unfold reMu; exact Int.le_refl 0
  | d + 1, h => by
    have ih := reMu_p (m := m) d (fun i i0 i1 => h i i0 (by omega))
    have q := h d (by omega) (by omega)
    have p : (0 : Int) ≤ 2000 ^ (m - 1 - d) := Int.le_of_lt (Int.pow_pos (by decide))
    have := Int.mul_nonneg (show 0 ≤ 1024 * pt (20 * r + 4 * pn d + 1) + 1024 - po d by omega) p
    rw [reMu]
    omega
theorem caQ_skip {ln pt : Int → Int} {F P : Int → Prop} {r : Int} {v : Int → Int} {j : Nat} : ∀ n : Nat, (∀ k, ln r - (j + n : Nat) ≤ k → k < ln r - j → ¬ pt (20 * r + 4 * k) = 0) → caQ ln pt F P r (j + n) v = caQ ln pt F P r j v
  | 0, _ => rfl
  | n + 1, h => by
    rw [show j + (n + 1) = (j + n) + 1 by omega, caQ, if_neg (h _ (by omega) (by omega))]
    exact caQ_skip n (fun k k0 k1 => h k (by omega) k1)
section
variable {hd kd fo ln pt st rn fr vs pn po w w' v : Int → Int} {n r k a b c x y s now m : Int} {A B : Prop} {F : Int → Prop} {post : Int → Prop}
/-- from index a to index b there is no plain part -/
theorem caQ_to {P : Int → Prop} (h0 : 0 ≤ a ∧ a ≤ b ∧ b ≤ ln r) (h : ∀ k, a ≤ k → k < b → ¬ pt (20 * r + 4 * k) = 0) : caQ ln pt F P r (ln r - a).toNat v = caQ ln pt F P r (ln r - b).toNat v := by
  have e : (ln r - a).toNat = (ln r - b).toNat + (b - a).toNat := by omega
  rw [e]
  exact caQ_skip _ (fun k k0 k1 => h k (by omega) (by omega))
theorem reAf_g (Pn : rePn ln pt r m pn (ln r)) {d : Nat} (hd' : (d : Int) ≤ m) : ∃ a, (0 ≤ a ∧ a ≤ ln r) ∧ reAf ln pt F r pn d = caQ ln pt F F r (ln r - a).toNat ∧ (∀ i : Int, 0 ≤ i → i < d → pn i < a) ∧ (∀ i : Int, d ≤ i → i < m → a ≤ pn i) := by
  obtain ⟨h0, h1, h2, h3⟩ := Pn
  cases d with
  | zero => exact ⟨0, by omega, by rw [reAf, Int.sub_zero], fun i i0 i1 => by omega, fun i i0 i1 => (h1 i (by omega) i1).1.1⟩
  | succ d =>
    have q := h1 d (by omega) (by omega)
    refine ⟨pn d + 1, by omega, by rw [reAf, show ln r - (pn d + 1) = ln r - pn d - 1 by omega], fun i i0 i1 => ?_, fun i i0 i1 => ?_⟩
    · by_cases z : i = d
      · rw [z]; omega
      · have := h2 i d i0 (by omega) (by omega); omega
    · have := h2 d i (by omega) (by omega) i1; omega
theorem reAf_in (Pn : rePn ln pt r m pn (ln r)) {d : Nat} (hd' : (d : Int) < m) : reAf ln pt F r pn d v = caC (reAf ln pt F r pn (d + 1)) F (pt (20 * r + 4 * pn d + 2)) (pt (20 * r + 4 * pn d + 3)) 1024 (1024 * pt (20 * r + 4 * pn d + 1)) v := by
  obtain ⟨a, ha, e, l1, l2⟩ := reAf_g (F := F) Pn (d := d) (by omega)
  obtain ⟨h0, h1, h2, h3⟩ := Pn
  have q := h1 d (by omega) (by omega)
  have al := l2 d (by omega) (by omega)
  rw [e, caQ_to (b := pn d) (by omega) (fun k k0 k1 z => ?_)]
  · have ej : (ln r - pn d).toNat = (ln r - pn d - 1).toNat + 1 := by omega
    have ei : ln r - (((ln r - pn d - 1).toNat : Nat) + 1 : Int) = pn d := by omega
    rw [ej, caQ, ei, if_pos q.2]
    rfl
  · obtain ⟨i, hi, ei⟩ := h3 k (by omega) (by omega) z
    by_cases w : i < d
    · have := l1 i hi.1 w; omega
    · by_cases w2 : i = d
      · rw [w2] at ei; omega
      · have := h2 d i (by omega) (by omega) hi.2; omega
theorem reAf_m (Pn : rePn ln pt r m pn (ln r)) : reAf ln pt F r pn m.toNat v = pif (rePs ln pt F r v) [v] [] := by
  have hm := Pn.1
  obtain ⟨a, ha, e, l1, l2⟩ := reAf_g (F := F) Pn (d := m.toNat) (by omega)
  obtain ⟨h0, h1, h2, h3⟩ := Pn
  rw [e, caQ_to (b := ln r) (by omega) (fun k k0 k1 z => ?_), show (ln r - ln r).toNat = 0 by omega, caQ]
  obtain ⟨i, hi, ei⟩ := h3 k (by omega) k1 z
  have := l1 i hi.1 (by omega)
  omega
/-- what pointers point to -/
def rePo (pt : Int → Int) (r : Int) (pn po : Int → Int) (d : Nat) : Prop := ∀ i : Int, 0 ≤ i → i < d → 1024 * pt (20 * r + 4 * pn i + 1) ≤ po i ∧ po i ≤ 1024 * pt (20 * r + 4 * pn i + 1) + 1023
theorem T55_n93 {K : Int → (Int → Int) → (Int → Int) → Prop} {d : Nat} (I : reI hd kd fo ln pt n) (hr : 0 ≤ r ∧ r < n) (Pn : rePn ln pt r m pn (ln r)) (hdm : (d : Int) < m) (hP : rePo pt r pn po d) (hw : reTl pt pn po r d = some w) (hF : F = reOl rn fr now) (hc : 1024 * pt (20 * r + 4 * pn d + 1) ≤ c ∧ c ≤ 1024 * pt (20 * r + 4 * pn d + 1) + 1024)
  (hE : ∀ v' po', (∀ i : Int, 0 ≤ i → i < d → po' i = po i) → caC (reAf ln pt F r pn (d + 1)) F (pt (20 * r + 4 * pn d + 2)) (pt (20 * r + 4 * pn d + 3)) (1024 * pt (20 * r + 4 * pn d + 1) + 1024 - c).toNat c w = [] → K (1024 * pt (20 * r + 4 * pn d + 1) + 1024) v' po')
  (hS : ∀ c' w' v' po', (c ≤ c' ∧ c' ≤ 1024 * pt (20 * r + 4 * pn d + 1) + 1023) → (∀ i : Int, 0 ≤ i → i < d → po' i = po i) → po' d = c' → reTl pt pn po' r (d + 1) = some w' → re6 v' w' → caC (reAf ln pt F r pn (d + 1)) F (pt (20 * r + 4 * pn d + 2)) (pt (20 * r + 4 * pn d + 3)) (1024 * pt (20 * r + 4 * pn d + 1) + 1024 - c).toNat c w = reAf ln pt F r pn (d + 1) w' ++ caC (reAf ln pt F r pn (d + 1)) F (pt (20 * r + 4 * pn d + 2)) (pt (20 * r + 4 * pn d + 3)) (1024 * pt (20 * r + 4 * pn d + 1) + 1023 - c').toNat (c' + 1) w → K c' v' po') (hpc : po d = c) : ∃ fu : Nat, wX55_next_93 K r d (pt (20 * r + 4 * pn d + 1)) pt rn pn now fr fu c vs po := by
  have hn := I.1
  obtain ⟨_, _, hl, i4⟩ := I.2 r hr.1 hr.2
  have Pn0 := Pn
  obtain ⟨h0, h1, h2, h3⟩ := Pn
  have q := h1 d (by omega) hdm
  obtain ⟨_, p2, _⟩ := i4 (pn d) q.1.1 q.1.2
  generalize eN : pt (20 * r + 4 * pn d + 1) = N at *
  generalize eG : reAf ln pt F r pn (d + 1) = G at *
  generalize eX : pt (20 * r + 4 * pn d + 2) = X at *
  generalize eY : pt (20 * r + 4 * pn d + 3) = Y at *
  refine wl3 (fun f x v p => wX55_next_93 K r d N pt rn pn now fr f x v p) (fun x v p => (c ≤ x ∧ x ≤ 1024 * N + 1024) ∧ (∀ i : Int, 0 ≤ i → i < d → p i = po i) ∧ p d = x ∧ caC G F X Y (1024 * N + 1024 - c).toNat c w = caC G F X Y (1024 * N + 1024 - x).toNat x w) (fun x _ _ => (1024 * N + 1024 - x).toNat) ?_ c vs po ⟨by omega, fun _ _ _ => rfl, hpc, rfl⟩
  rintro x v p ⟨hx, hp, hpd, hL⟩ f ih
  rw [wX55_next_93]
  refine ⟨by omega, fun z => ?_, fun z => ?_⟩
  · have e : x = 1024 * N + 1024 := by omega
    rw [e]
    refine hE v p hp ?_
    rw [hL, show (1024 * N + 1024 - x).toNat = 0 by omega, caC]
  have eL : caC G F X Y (1024 * N + 1024 - x).toNat x w = pif (F x) (match reBc X Y x w with | some w => G w | none => []) [] ++ caC G F X Y (1024 * N + 1023 - x).toNat (x + 1) w := by
    rw [show (1024 * N + 1024 - x).toNat = (1024 * N + 1023 - x).toNat + 1 by omega, caC]
  have e2 : 1024 * N + 1024 - (x + 1) = 1024 * N + 1023 - x := by omega
  have go : (pif (F x) (match reBc X Y x w with | some w => G w | none => []) [] = ([] : List (Int → Int))) → ∀ v2 x2 : _, x2 = x + 1 → ∀ p2 : Int → Int, p2 = updI p d x2 → wX55_next_93 K r d N pt rn pn now fr f x2 v2 p2 := fun no v2 x2 ex p2' ep => by
    rw [ep, ex]
    refine ih _ _ _ ⟨by omega, fun i i0 i1 => ?_, updI_s, ?_⟩ (by omega)
    · rw [updI_n (show i ≠ d by omega)]; exact hp i i0 i1
    · rw [hL, eL, no, List.nil_append, e2]
  have eT : reTl pt pn p r (d + 1) = reBc X Y x w := by
    rw [reTl, reTl_c d hp, hw, hpd, eX, eY]; rfl
  refine T55_isOldB (by omega) (fun o => ⟨by omega, ?_⟩) (fun o => ⟨by omega, fun x2 ex => ⟨by omega, fun p2' ep => ?_⟩⟩)
  · have Fx : F x := by rw [hF]; exact o
    have pos : ∀ i : Int, 0 ≤ i → i < ((d + 1 : Nat) : Int) → (0 ≤ pn i ∧ pn i < 5) ∧ 0 ≤ p i ∧ reIt (pt (20 * r + 4 * pn i + 2)) ∧ reIt (pt (20 * r + 4 * pn i + 3)) := fun i i0 i1 => by
      have qi := h1 i i0 (by omega)
      have pi := i4 (pn i) qi.1.1 qi.1.2
      refine ⟨by omega, ?_, pi.2.2⟩
      by_cases zi : i = d
      · rw [zi, hpd]; omega
      · have := hP i i0 (by omega)
        rw [hp i i0 (by omega)]; omega
    have T := T55_tell (post := fun (r_38 : Int) (f_values_39 : Int → Int) => (((r_38 = 0 → (zR (x + 1) ∧ (∀ x5_41 : Int, x5_41 = x + 1 → ((0 ≤ (d : Int) ∧ (d : Int) < 5) ∧ (∀ f_pointers_43 : Int → Int, f_pointers_43 = updI p d x5_41 → (wX55_next_93 K r d N pt rn pn now fr f x5_41 f_values_39 f_pointers_43)))))) ∧ (¬ r_38 = 0 → (K x f_values_39 p))))) (vs := v) (d := d + 1) (by omega) (by omega) pos (fun e v' => ⟨fun _ => ⟨by omega, fun x2 ex => ⟨by omega, fun p2' ep => ?_⟩⟩, fun w => absurd rfl w⟩) (fun w' v' e h6 => ⟨fun w => absurd w (by decide), fun _ => ?_⟩)
    · rw [show ((d + 1 : Nat) : Int) = (d : Int) + 1 by omega] at T
      exact T
    · rw [eT] at e
      refine go ?_ v' x2 ex p2' ep
      rw [pif_t Fx, e]
    · have e' := e
      rw [eT] at e'
      refine hS x w' v' p (by omega) hp hpd e h6 ?_
      rw [hL, eL, pif_t Fx, e']
  · refine go ?_ v x2 ex p2' ep
    rw [pif_f (fun z => o (by rw [hF] at z; exact z))]
theorem re2000 (k : Nat) : (1 : Int) ≤ 2000 ^ k := by
  have : (0 : Int) < 2000 ^ k := Int.pow_pos (by decide)
  omega
theorem T55_n49 {K1 K0 : (Int → Int) → (Int → Int) → Prop} (I : reI hd kd fo ln pt n) (hr : 0 ≤ r ∧ r < n) (hs : reSf hd kd fo ln pt r) (Pn : rePn ln pt r m pn (ln r)) (hF : F = reOl rn fr now) {L : List (Int → Int)}
  (h0 : L = [] → ∀ v' po', K0 v' po')
  (h1 : ∀ u L', L = u :: L' → ∀ v' po', re6 v' u → rePo pt r pn po' m.toNat → reTl pt pn po' r m.toNat = some u → reRm ln pt F r pn po' m.toNat = L' → K1 v' po') :
  ∀ (d : Int) (vs po : Int → Int), -1 ≤ d → d < m → rePo pt r pn po d.toNat → (0 ≤ d → 1024 * pt (20 * r + 4 * pn d + 1) - 1 ≤ po d ∧ po d ≤ 1024 * pt (20 * r + 4 * pn d + 1) + 1023) → (∃ w, reTl pt pn po r d.toNat = some w) → reRm ln pt F r pn po (d + 1).toNat = L → ∃ fu : Nat, wX55_next_49 K1 K0 r ln pt rn pn m now fr fu d vs po := fun d vs po hd0 hd1 hP hPd hT hL => by
  have hn := I.1
  obtain ⟨_, _, hl, i4⟩ := I.2 r hr.1 hr.2
  have Pn0 := Pn
  obtain ⟨g0, g1, g2, g3⟩ := Pn
  refine wl3 (fun f d v p => wX55_next_49 K1 K0 r ln pt rn pn m now fr f d v p) (fun d v p => (-1 ≤ d ∧ d < m) ∧ rePo pt r pn p d.toNat ∧ (0 ≤ d → 1024 * pt (20 * r + 4 * pn d + 1) - 1 ≤ p d ∧ p d ≤ 1024 * pt (20 * r + 4 * pn d + 1) + 1023) ∧ (∃ w, reTl pt pn p r d.toNat = some w) ∧ reRm ln pt F r pn p (d + 1).toNat = L) (fun d _ p => (20 * reMu pt r pn p m.toNat (d + 1).toNat + d + 1).toNat) ?_ d vs po ⟨⟨hd0, hd1⟩, hP, hPd, hT, hL⟩
  rintro d v p ⟨⟨d0, d1⟩, hP, hPd, ⟨w, hw⟩, hL⟩ f ih
  rw [wX55_next_49]
  refine ⟨fun z => ?_, fun z => ?_⟩
  · rw [show (d + 1).toNat = 0 by omega, reRm] at hL
    exact h0 hL.symm v p
  have q := g1 d (by omega) d1
  obtain ⟨_, p2, _⟩ := i4 (pn d) q.1.1 q.1.2
  have hPd := hPd (by omega)
  have ed : ((d.toNat : Nat) : Int) = d := by omega
  have ed1 : (d + 1).toNat = d.toNat + 1 := by omega
  refine ⟨by omega, by omega, fun N eN => ⟨by omega, fun c ec p1 ep1 => ?_⟩⟩
  rw [eN, ec]
  have low1 : ∀ i : Int, 0 ≤ i → i < d.toNat → p1 i = p i := fun i i0 i1 => by rw [ep1, updI_n (show i ≠ d by omega)]
  have p1d : p1 d = p d + 1 := by rw [ep1, updI_s, ec]
  rw [ed1, reRm, hw, ed] at hL
  have Mu0 : reMu pt r pn p m.toNat (d + 1).toNat = reMu pt r pn p m.toNat d.toNat + (1024 * pt (20 * r + 4 * pn d + 1) + 1024 - p d) * 2000 ^ (m.toNat - 1 - d.toNat) := by
    rw [ed1, reMu, ed]
  have W0 := re2000 (m.toNat - 1 - d.toNat)
  generalize hWW : (2000 : Int) ^ (m.toNat - 1 - d.toNat) = WW at Mu0 W0
  have mup := reMu_p (pt := pt) (r := r) (pn := pn) (po := p) (m := m.toNat) d.toNat (fun i i0 i1 => by have := hP i i0 i1; omega)
  have X := T55_n93 (d := d.toNat) (vs := v) (po := p1) (w := w) (c := p d + 1) (F := F) (K := fun (x5_45 : Int) (f_values_46 : Int → Int) (f_pointers_47 : Int → Int) => wX55_next_142 (wX55_next_49 K1 K0 r ln pt rn pn m now fr f) K1 r d (pt (20 * r + 4 * pn d + 1)) x5_45 ln pt rn f_values_46 pn m f_pointers_47 now fr) I hr Pn0 (by omega) (fun i i0 i1 => by rw [low1 i i0 i1]; exact hP i i0 i1) (by rw [reTl_c d.toNat low1]; exact hw) hF (by rw [ed]; omega) ?_ ?_ (by rw [ed]; exact p1d)
  · rw [ed] at X; exact X
  · -- at the end of a name
    intro v' po' hpo hnil
    rw [ed] at hnil ⊢
    have low : ∀ i : Int, 0 ≤ i → i < d.toNat → po' i = p i := fun i i0 i1 => (hpo i i0 i1).trans (low1 i i0 i1)
    unfold wX55_next_142
    refine ⟨by omega, fun _ => ⟨by omega, fun d2 e2 => ?_⟩, fun zz => absurd rfl zz⟩
    rw [e2, show d + (-1) = d - 1 by omega]
    rw [show (1024 * pt (20 * r + 4 * pn d + 1) + 1024 - (p d + 1)).toNat = (1024 * pt (20 * r + 4 * pn d + 1) + 1023 - p d).toNat by omega] at hnil
    have hL2 : reRm ln pt F r pn p d.toNat = L := by
      have := hL
      dsimp only at this
      rw [hnil, List.nil_append] at this; exact this
    refine ih (d - 1) v' po' ⟨by omega, fun i i0 i1 => ?_, fun dd => ?_, ?_, ?_⟩ ?_
    · rw [low i i0 (by omega)]; exact hP i i0 (by omega)
    · rw [low (d - 1) dd (by omega)]
      have := hP (d - 1) dd (by omega)
      omega
    · by_cases z0 : d = 0
      · exact ⟨_, by rw [z0]; rfl⟩
      · have e3 : d.toNat = (d - 1).toNat + 1 := by omega
        rw [e3, reTl] at hw
        cases h : reTl pt pn p r (d - 1).toNat with
        | none => rw [h] at hw; exact absurd hw (by simp)
        | some w0 => exact ⟨w0, by rw [reTl_c _ (fun i i0 i1 => low i i0 (by omega))]; exact h⟩
    · rw [show d - 1 + 1 = d by omega, reRm_c d.toNat low]; exact hL2
    · rw [show d - 1 + 1 = d by omega, reMu_c d.toNat low]
      have : 0 ≤ (1024 * pt (20 * r + 4 * pn d + 1) + 1024 - p d) * WW := Int.mul_nonneg (by omega) (by omega)
      omega
  · -- a code that is told
    intro c' w' v' po' hc' hpo hpd hT6 h6 hL3
    rw [ed] at hc' hpd hL3
    have low : ∀ i : Int, 0 ≤ i → i < d.toNat → po' i = p i := fun i i0 i1 => (hpo i i0 i1).trans (low1 i i0 i1)
    rw [show (1024 * pt (20 * r + 4 * pn d + 1) + 1024 - (p d + 1)).toNat = (1024 * pt (20 * r + 4 * pn d + 1) + 1023 - p d).toNat by omega] at hL3
    have eR : reRm ln pt F r pn po' (d.toNat + 1) = caC (reAf ln pt F r pn (d.toNat + 1)) F (pt (20 * r + 4 * pn d + 2)) (pt (20 * r + 4 * pn d + 3)) (1024 * pt (20 * r + 4 * pn d + 1) + 1023 - c').toNat (c' + 1) w ++ reRm ln pt F r pn p d.toNat := by
      rw [reRm, ed, hpd, reTl_c d.toNat low, hw, reRm_c d.toNat low]
    have hL4 : reAf ln pt F r pn (d.toNat + 1) w' ++ reRm ln pt F r pn po' (d.toNat + 1) = L := by
      rw [eR, ← List.append_assoc, ← hL3]; exact hL
    have hP2 : rePo pt r pn po' (d.toNat + 1) := fun i i0 i1 => by
      by_cases z2 : i = d
      · rw [z2, hpd]; omega
      · rw [low i i0 (by omega)]; exact hP i i0 (by omega)
    have Mu1 : reMu pt r pn po' m.toNat (d.toNat + 1) + WW ≤ reMu pt r pn p m.toNat (d + 1).toNat := by
      rw [reMu, Mu0, ed, hpd, reMu_c d.toNat low, hWW]
      have := Int.mul_le_mul_of_nonneg_right (show (1024 * pt (20 * r + 4 * pn d + 1) + 1024 - c') ≤ (1024 * pt (20 * r + 4 * pn d + 1) + 1024 - p d) - 1 by omega) (show 0 ≤ WW by omega)
      have e := Int.sub_mul (1024 * pt (20 * r + 4 * pn d + 1) + 1024 - p d) 1 WW
      rw [Int.one_mul] at e
      omega
    unfold wX55_next_142
    refine ⟨by omega, fun zz => by omega, fun _ => ⟨by omega, fun last => ?_, fun nl => ⟨by omega, fun d2 e2 => ?_⟩⟩⟩
    · -- the last plain part
      have em : m.toNat = d.toNat + 1 := by omega
      have eA := reAf_m (F := F) (v := w') Pn0
      rw [em] at eA
      rw [eA] at hL4
      have pc := rePs_c (F := reOl rn fr now) (ln := ln) (pt := pt) (r := r) h6 (fun k k0 k1 => (i4 k k0 k1).2.2)
      have ok : reOk ln pt r v' := fun k k0 k1 nz => by
        have pk := (i4 k k0 k1).2.2
        rw [reVl_c h6 pk.1, reVl_c h6 pk.2]
        have tv := reTl_v (d.toNat + 1) w' (fun i i0 i1 => by have qi := g1 i i0 (by omega); have := (i4 (pn i) qi.1.1 qi.1.2).2.1; have := hP2 i i0 i1; omega) hT6
        have bnd : ∀ it, reIt it → reBd ln pt r it → 0 ≤ reVl w' it ∧ reVl w' it < 32 := fun it hit hb => by
          rcases hb with hb | ⟨k2, hk2, ez, eo⟩
          · unfold reVl
            unfold reIt at hit
            rw [if_neg (by omega)]; omega
          · obtain ⟨i, hi, ei⟩ := g3 k2 hk2.1 hk2.2 ez
            have t := tv i hi.1 (by omega)
            rw [ei] at t
            rcases eo with eo | eo
            · rw [← eo]; exact t.1
            · rw [← eo]; exact t.2
        have sk := hs.2.2.2 k k0 k1 nz
        exact ⟨bnd _ pk.1 sk.1, bnd _ pk.2 sk.2⟩
      refine T55_passesB I hr ok (fun ps => ?_) (fun ps => ?_)
      · rw [pif_t (by rw [hF]; exact pc.1 ps)] at hL4
        exact h1 w' _ hL4.symm v' po' h6 (by rw [em]; exact hP2) (by rw [em]; exact hT6) (by rw [em]; rfl)
      · rw [pif_f (by rw [hF]; exact fun z => ps (pc.2 z)), List.nil_append] at hL4
        refine ih d v' po' ⟨by omega, fun i i0 i1 => hP2 i i0 (by omega), fun _ => by rw [hpd]; omega, ⟨w, by rw [reTl_c d.toNat low]; exact hw⟩, by rw [ed1]; exact hL4⟩ ?_
        rw [ed1] at Mu1 ⊢
        have := reMu_p (pt := pt) (r := r) (pn := pn) (po := po') (m := m.toNat) (d.toNat + 1) (fun i i0 i1 => by have := hP2 i i0 i1; omega)
        omega
    · -- one deeper
      rw [e2]
      have q2 := g1 (d + 1) (by omega) (by omega)
      obtain ⟨_, p22, _⟩ := i4 (pn (d + 1)) q2.1.1 q2.1.2
      refine ⟨by omega, by omega, by omega, fun v3 ev3 po2 epo2 => ?_⟩
      rw [ev3] at epo2
      have low2 : ∀ i : Int, 0 ≤ i → i < ((d.toNat + 1 : Nat) : Int) → po2 i = po' i := fun i i0 i1 => by rw [epo2, updI_n (show i ≠ d + 1 by omega)]
      have po2d : po2 (d + 1) = 1024 * pt (20 * r + 4 * pn (d + 1) + 1) - 1 := by rw [epo2, updI_s]
      have ec1 : ((d.toNat + 1 : Nat) : Int) = d + 1 := by omega
      have eA := reAf_in (F := F) (v := w') Pn0 (d := d.toNat + 1) (by omega)
      rw [ec1] at eA
      refine ih (d + 1) v' po2 ⟨by omega, fun i i0 i1 => ?_, fun _ => by rw [po2d]; omega, ⟨w', ?_⟩, ?_⟩ ?_
      · rw [low2 i i0 (by omega)]; exact hP2 i i0 (by omega)
      · rw [ed1, reTl_c _ low2]; exact hT6
      · rw [show (d + 1 + 1).toNat = (d.toNat + 1) + 1 by omega, reRm, reTl_c _ low2, hT6, ec1, po2d, show (1024 * pt (20 * r + 4 * pn (d + 1) + 1) + 1023 - (1024 * pt (20 * r + 4 * pn (d + 1) + 1) - 1)).toNat = 1024 by omega, show 1024 * pt (20 * r + 4 * pn (d + 1) + 1) - 1 + 1 = 1024 * pt (20 * r + 4 * pn (d + 1) + 1) by omega, reRm_c _ low2]
        dsimp only
        rw [← eA]; exact hL4
      · have W1 := re2000 (m.toNat - 1 - (d.toNat + 1))
        have eW : WW = 2000 ^ (m.toNat - 1 - (d.toNat + 1)) * 2000 := by
          rw [← hWW, show m.toNat - 1 - d.toNat = (m.toNat - 1 - (d.toNat + 1)) + 1 by omega, Int.pow_succ]
        have Mu2 : reMu pt r pn po2 m.toNat ((d.toNat + 1) + 1) = reMu pt r pn po' m.toNat (d.toNat + 1) + 1025 * 2000 ^ (m.toNat - 1 - (d.toNat + 1)) := by
          rw [reMu, ec1, po2d, reMu_c _ low2, show 1024 * pt (20 * r + 4 * pn (d + 1) + 1) + 1024 - (1024 * pt (20 * r + 4 * pn (d + 1) + 1) - 1) = 1025 by omega]
        rw [show (d + 1 + 1).toNat = (d.toNat + 1) + 1 by omega, Mu2]
        generalize (2000 : Int) ^ (m.toNat - 1 - (d.toNat + 1)) = V at W1 eW
        have := reMu_p (pt := pt) (r := r) (pn := pn) (po := po') (m := m.toNat) (d.toNat + 1) (fun i i0 i1 => by have := hP2 i i0 i1; omega)
        omega
end

/-! RuleEngine, the reference (X55): what a rule gives -/
/-- a case u is at hand, L are those behind it -/
def reAt (ln pt : Int → Int) (F : Int → Prop) (r : Int) (pn : Int → Int) (m : Int) (u : Int → Int) (L : List (Int → Int)) (vs po : Int → Int) : Prop := re6 vs u ∧ (m = 0 → L = [] ∧ u = fun _ => -1) ∧ (0 < m → rePo pt r pn po m.toNat ∧ reTl pt pn po r m.toNat = some u ∧ reRm ln pt F r pn po m.toNat = L)
/-- what is done with a fact that is given: rounds, given, fresh, layed -/
def reG4 : Type := (Int → Int) × (Int → Int) × (Int → Int) × Int
def reGs (round now : Int) (S : reG4) (c : Int) : reG4 := if round < 0 then (S.1, updI S.2.1 c (S.2.1 c + 1), S.2.2.1, S.2.2.2) else if S.1 c < 0 then (updI S.1 c round, S.2.1, updI S.2.2.1 c now, S.2.2.2 + 1) else S
def reGl (round now : Int) (S : reG4) : List Int → reG4
  | [] => S
  | c :: l => reGl round now (reGs round now S c) l
/-- there is room for k more -/
def reGk (round : Int) (S : reG4) (k : Int) : Prop := (round < 0 → ∀ c, 0 ≤ c → c < 16384 → 0 ≤ S.2.1 c ∧ S.2.1 c + k ≤ 2000000000) ∧ (0 ≤ round → 0 ≤ S.2.2.2 ∧ S.2.2.2 + cntI (fun c => S.1 c < 0) 16384 ≤ 16384)
/-- numbers, sums, least and greatest by the head's first item -/
def reM4 : Type := (Int → Int) × (Int → Int) × (Int → Int) × (Int → Int)
def reFd (S : reM4) (x v : Int) : reM4 := (updI S.1 x (S.1 x + 1), updI S.2.1 x ((S.2.1 x + v) % 32), updI S.2.2.1 x (if S.1 x = 0 ∨ v < S.2.2.1 x then v else S.2.2.1 x), updI S.2.2.2 x (if S.1 x = 0 ∨ S.2.2.2 x < v then v else S.2.2.2 x))
def reFl (hx fx : Int) (S : reM4) : List (Int → Int) → reM4
  | [] => S
  | u :: l => reFl hx fx (reFd S (reVl u hx) (reVl u fx)) l
/-- heads of a rule that puts together, from x on -/
def reFh (k name : Int) (S : reM4) : Nat → Int → List Int
  | 0, _ => []
  | n + 1, x => (if S.1 x = 0 then [] else [reCd name x (if k = 0 then S.1 x % 32 else if k = 1 then S.2.1 x else if k = 2 then S.2.2.1 x else S.2.2.2 x)]) ++ reFh k name S n (x + 1)
section
variable {hd kd fo ln pt st rn fr gv vs pn po w w' v u mn sm lo hi : Int → Int} {n r k a b c x y s now m round ly : Int} {A B : Prop} {F : Int → Prop} {L : List (Int → Int)}
theorem reAt_b (I : reI hd kd fo ln pt n) (hr : 0 ≤ r ∧ r < n) (Pn : rePn ln pt r m pn (ln r)) (H : reAt ln pt F r pn m u L vs po) {it : Int} (hi : reIt it) (hb : reBd ln pt r it) : 0 ≤ reVl u it ∧ reVl u it < 32 := by
  obtain ⟨_, _, _, i4⟩ := I.2 r hr.1 hr.2
  obtain ⟨g0, g1, g2, g3⟩ := Pn
  rcases hb with hb | ⟨k2, hk2, ez, eo⟩
  · unfold reVl
    unfold reIt at hi
    rw [if_neg (by omega)]; omega
  · obtain ⟨i, hi', ei⟩ := g3 k2 hk2.1 hk2.2 ez
    obtain ⟨hP, hT, _⟩ := H.2.2 (by omega)
    have t := reTl_v m.toNat u (fun i i0 i1 => by have qi := g1 i i0 (by omega); have := (i4 (pn i) qi.1.1 qi.1.2).2.1; have := hP i i0 i1; omega) hT i hi'.1 (by omega)
    rw [ei] at t
    rcases eo with eo | eo
    · rw [← eo]; exact t.1
    · rw [← eo]; exact t.2
theorem T55_next1 {post : Int → (Int → Int) → (Int → Int) → Prop} (I : reI hd kd fo ln pt n) (hr : 0 ≤ r ∧ r < n) (hs : reSf hd kd fo ln pt r) (Pn : rePn ln pt r m pn (ln r)) (hF : F = reOl rn fr now) (hp0 : 0 < m → po 0 = 1024 * pt (20 * r + 4 * pn 0 + 1) - 1)
  (h0 : reCs ln pt F r = [] → ∀ v' po', post 0 v' po') (h1 : ∀ u L, reCs ln pt F r = u :: L → ∀ v' po', reAt ln pt F r pn m u L v' po' → post 1 v' po') : wpX55_next post ln pt rn vs pn m po now fr r 1 := by
  have hn := I.1
  obtain ⟨_, _, hl, i4⟩ := I.2 r hr.1 hr.2
  have hm := Pn.1
  unfold wpX55_next
  refine ⟨fun m0 => ⟨fun z => absurd z (by decide), fun _ => ?_⟩, fun m0 => ⟨fun z => absurd z (by decide), fun _ => ?_⟩⟩
  · have eA := reAf_m (F := F) (v := fun _ => -1) Pn
    have eC : reCs ln pt F r = reAf ln pt F r pn m.toNat (fun _ => -1) := by rw [m0]; rfl
    rw [eC, eA] at h0 h1
    have T := T55_tell (pt := pt) (pn := pn) (po := po) (r := r) (vs := vs) (post := fun (r_87 : Int) (f_values_88 : Int → Int) => (((r_87 = 0 → (post 0 f_values_88 po)) ∧ (¬ r_87 = 0 → (wpX55_passes (fun (r_90 : Int) => (((r_90 = 0 → (post 0 f_values_88 po)) ∧ (¬ r_90 = 0 → (post 1 f_values_88 po))))) ln pt rn f_values_88 now fr r))))) (d := 0) (by decide) (by omega) (fun i i0 i1 => by omega) (fun e => absurd e (by rw [reTl]; simp)) (fun w v' e h6 => ⟨fun z => absurd z (by decide), fun _ => ?_⟩)
    · exact T
    · have ew : w = fun _ => -1 := by rw [reTl] at e; exact (Option.some.inj e).symm
      rw [ew] at h6
      have at0 : ∀ L', L' = [] → reAt ln pt F r pn m (fun _ => -1) L' v' po := fun L' eL => ⟨h6, fun _ => ⟨eL, rfl⟩, fun z => by omega⟩
      have pc := rePs_c (F := reOl rn fr now) (ln := ln) (pt := pt) (r := r) h6 (fun k k0 k1 => (i4 k k0 k1).2.2)
      have ok : reOk ln pt r v' := fun k k0 k1 nz => by
        have pk := (i4 k k0 k1).2.2
        rw [reVl_c h6 pk.1, reVl_c h6 pk.2]
        have sk := hs.2.2.2 k k0 k1 nz
        exact ⟨reAt_b I hr Pn (at0 [] rfl) pk.1 sk.1, reAt_b I hr Pn (at0 [] rfl) pk.2 sk.2⟩
      refine T55_passesB I hr ok (fun ps => ?_) (fun ps => ?_)
      · rw [pif_t (by rw [hF]; exact pc.1 ps)] at h1
        exact h1 _ _ rfl v' po (at0 [] rfl)
      · rw [pif_f (by rw [hF]; exact fun z => ps (pc.2 z))] at h0
        exact h0 rfl v' po
  · have eC : reCs ln pt F r = reRm ln pt F r pn po 1 := by
      have e1 : reCs ln pt F r = reAf ln pt F r pn 0 (fun _ => -1) := rfl
      have hp0' := hp0 (by omega)
      rw [e1, reAf_in (F := F) Pn (by omega), reRm, reTl, show ((0 : Nat) : Int) = 0 from rfl, hp0', reRm, List.append_nil, show (1024 * pt (20 * r + 4 * pn 0 + 1) + 1023 - (1024 * pt (20 * r + 4 * pn 0 + 1) - 1)).toNat = 1024 by omega, show 1024 * pt (20 * r + 4 * pn 0 + 1) - 1 + 1 = 1024 * pt (20 * r + 4 * pn 0 + 1) by omega]
    have hp0' := hp0 (by omega)
    exact T55_n49 I hr hs Pn hF (L := reCs ln pt F r) h0 (fun u L' e v' po' h6 hP hT hR => h1 u L' e v' po' ⟨h6, fun z => absurd z m0, fun _ => ⟨hP, hT, hR⟩⟩) 0 vs po (by decide) (by omega) (fun i i0 i1 => by omega) (fun _ => by omega) ⟨_, rfl⟩ eC.symm
theorem T55_next0 {post : Int → (Int → Int) → (Int → Int) → Prop} (I : reI hd kd fo ln pt n) (hr : 0 ≤ r ∧ r < n) (hs : reSf hd kd fo ln pt r) (Pn : rePn ln pt r m pn (ln r)) (hF : F = reOl rn fr now) (hm0 : 0 < m) (H : reAt ln pt F r pn m u L vs po)
  (h0 : L = [] → ∀ v' po', post 0 v' po') (h1 : ∀ u L', L = u :: L' → ∀ v' po', reAt ln pt F r pn m u L' v' po' → post 1 v' po') : wpX55_next post ln pt rn vs pn m po now fr r 0 := by
  have hn := I.1
  obtain ⟨_, _, hl, i4⟩ := I.2 r hr.1 hr.2
  have hm := Pn.1
  obtain ⟨hP, hT, hR⟩ := H.2.2 hm0
  unfold wpX55_next
  refine ⟨fun z => by omega, fun _ => ⟨fun _ => ⟨by omega, fun d ed => ?_⟩, fun z => absurd rfl z⟩⟩
  have em : m.toNat = (m - 1).toNat + 1 := by omega
  rw [ed]
  have tl : ∃ w, reTl pt pn po r (m - 1).toNat = some w := by
    rw [em, reTl] at hT
    cases h : reTl pt pn po r (m - 1).toNat with
    | none => rw [h] at hT; exact absurd hT (by simp)
    | some w0 => exact ⟨w0, rfl⟩
  refine T55_n49 I hr hs Pn hF (L := L) h0 (fun u L' e v' po' h6 hP' hT' hR' => h1 u L' e v' po' ⟨h6, fun z => by omega, fun _ => ⟨hP', hT', hR'⟩⟩) (m - 1) vs po (by omega) (by omega) (fun i i0 i1 => hP i i0 (by omega)) (fun z => ?_) tl (by rw [show m - 1 + 1 = m by omega]; exact hR)
  have := hP (m - 1) z (by omega)
  omega
theorem reGs_1 {S : reG4} (h : round < 0) : reGs round now S c = (S.1, updI S.2.1 c (S.2.1 c + 1), S.2.2.1, S.2.2.2) := if_pos h
theorem reGs_2 {S : reG4} (h : ¬ round < 0) (z : S.1 c < 0) : reGs round now S c = (updI S.1 c round, S.2.1, updI S.2.2.1 c now, S.2.2.2 + 1) := (if_neg h).trans (if_pos z)
theorem reGs_3 {S : reG4} (h : ¬ round < 0) (z : ¬ S.1 c < 0) : reGs round now S c = S := (if_neg h).trans (if_neg z)
theorem reGs_k {S : reG4} (hc : 0 ≤ c ∧ c < 16384) (h : reGk round S (k + 1)) (hk : 0 ≤ k) : reGk round (reGs round now S c) k := by
  refine ⟨fun r0 d d0 d1 => ?_, fun r0 => ?_⟩
  · rw [reGs_1 r0]
    have q := h.1 r0 d d0 d1
    show 0 ≤ updI S.2.1 c (S.2.1 c + 1) d ∧ updI S.2.1 c (S.2.1 c + 1) d + k ≤ 2000000000
    by_cases z : d = c
    · rw [z] at q ⊢
      rw [updI_s]; omega
    · rw [updI_n z]; omega
  · have q := h.2 r0
    by_cases z : S.1 c < 0
    · rw [reGs_2 (by omega) z]
      show 0 ≤ S.2.2.2 + 1 ∧ S.2.2.2 + 1 + cntI (fun d => updI S.1 c round d < 0) 16384 ≤ 16384
      have lt := cntI_ltr (p := fun d => updI S.1 c round d < 0) (q := fun d => S.1 d < 0) (j := c) 16384 (fun i i0 i1 h2 => by
        by_cases e : i = c
        · rw [e]; exact z
        · have h3 : updI S.1 c round i < 0 := h2
          rw [updI_n e] at h3; exact h3) hc.1 (by omega) z (by show ¬ updI S.1 c round c < 0; rw [updI_s]; omega)
      omega
    · rw [reGs_3 (by omega) z]; exact q
theorem reGs_F {S : reG4} (hF : F = reOl S.1 S.2.2.1 now) (hn : 0 ≤ round → 0 ≤ now) : F = reOl (reGs round now S c).1 (reGs round now S c).2.2.1 now := by
  rw [hF]
  by_cases r0 : round < 0
  · rw [reGs_1 r0]
  · by_cases z : S.1 c < 0
    · rw [reGs_2 r0 z]
      funext d
      unfold reOl
      dsimp only
      by_cases e : d = c
      · rw [e, updI_s, updI_s]
        refine propext ⟨fun q => by omega, fun q => ?_⟩
        have := hn (by omega)
        omega
      · rw [updI_n e, updI_n e]
    · rw [reGs_3 r0 z]
theorem T55_give {post : (Int → Int) → (Int → Int) → (Int → Int) → Int → Prop} (hc : 0 ≤ c ∧ c < 16384) (hk : reGk round (rn, gv, fr, ly) 1) (hp : ∀ S : reG4, S = reGs round now (rn, gv, fr, ly) c → post S.1 S.2.1 S.2.2.1 S.2.2.2) : wpX55_give post rn gv now fr ly c round := by
  have H := hp _ rfl
  unfold wpX55_give
  refine ⟨fun r0 => ⟨hc, fun z => ?_, fun z a1 e1 a2 e2 => ?_⟩, fun r0 => ⟨hc, ?_, fun v ev g eg => ?_⟩⟩
  · rw [reGs_3 (round := round) (now := now) (c := c) (S := (rn, gv, fr, ly)) (by omega) (show ¬ rn c < 0 by omega)] at H
    exact H
  · rw [reGs_2 (round := round) (now := now) (c := c) (S := (rn, gv, fr, ly)) (by omega) (show rn c < 0 by omega)] at H
    have q := hk.2 r0
    have q' : 0 ≤ ly ∧ ly + cntI (fun c => rn c < 0) 16384 ≤ 16384 := q
    have cb := (cntI_b (fun c => rn c < 0) 16384).1
    refine ⟨by omega, fun l2 el => ?_⟩
    rw [e1, e2, el]; exact H
  · have q : 0 ≤ gv c ∧ gv c + 1 ≤ 2000000000 := hk.1 (by omega) c hc.1 hc.2
    omega
  · rw [reGs_1 (round := round) (now := now) (c := c) (S := (rn, gv, fr, ly)) (by omega)] at H
    rw [eg, ev]; exact H
theorem T55_s257 {K75 : Int → (Int → Int) → (Int → Int) → (Int → Int) → (Int → Int) → (Int → Int) → (Int → Int) → (Int → Int) → (Int → Int) → (Int → Int) → Int → Prop} (I : reI hd kd fo ln pt n) (hr : 0 ≤ r ∧ r < n) (hs : reSf hd kd fo ln pt r) (Pn : rePn ln pt r m pn (ln r)) (hF : F = reOl rn fr now) (H : reAt ln pt F r pn m u L vs po)
  (h0 : L = [] → ∀ v' po', K75 0 rn gv v' po' fr mn sm lo hi ly) (h1 : ∀ u L', L = u :: L' → ∀ v' po', reAt ln pt F r pn m u L' v' po' → K75 1 rn gv v' po' fr mn sm lo hi ly) : wX55_spread_257 K75 r ln pt rn gv vs pn m po now fr mn sm lo hi ly := by
  have hm := Pn.1
  unfold wX55_spread_257
  refine ⟨fun z => h0 (H.2.1 (by omega)).1 vs po, fun z => T55_next0 I hr hs Pn hF (by omega) H (fun e v' po' => ⟨fun _ => h0 e v' po', fun q => absurd rfl q⟩) (fun u L' e v' po' h => ⟨fun q => absurd q (by decide), fun _ => h1 u L' e v' po' h⟩)⟩
/-- the head of a case -/
def reHe (hd : Int → Int) (r : Int) (u : Int → Int) : Int := reCd (hd (3 * r)) (reVl u (hd (3 * r + 1))) (reVl u (hd (3 * r + 2)))
theorem T55_s75n {K : (Int → Int) → (Int → Int) → (Int → Int) → (Int → Int) → (Int → Int) → (Int → Int) → (Int → Int) → (Int → Int) → (Int → Int) → Int → Prop} (I : reI hd kd fo ln pt n) (hr : 0 ≤ r ∧ r < n) (hs : reSf hd kd fo ln pt r) (hk0 : kd r < 0) (Pn : rePn ln pt r m pn (ln r)) (hnw : 0 ≤ round → 0 ≤ now) :
  ∀ (L : List (Int → Int)) (u vs po rn gv fr : Int → Int) (ly : Int), F = reOl rn fr now → reAt ln pt F r pn m u L vs po → reGk round (rn, gv, fr, ly) (L.length + 1) → (∀ S : reG4, S = reGl round now (rn, gv, fr, ly) ((u :: L).map (reHe hd r)) → ∀ v' po', K S.1 S.2.1 v' po' S.2.2.1 mn sm lo hi S.2.2.2) → wX55_spread_75 K r round (hd (3 * r)) 0 hd fo ln pt pn m now (L.length + 2) 1 rn gv vs po fr mn sm lo hi ly := fun L => by
  have hn := I.1
  obtain ⟨⟨i1, ix, iy⟩, _, hl, i4⟩ := I.2 r hr.1 hr.2
  induction L with
  | nil =>
    intro u vs po rn gv fr ly hF H hk hK
    rw [show ([] : List (Int → Int)).length + 2 = 1 + 1 from rfl, wX55_spread_75]
    have bx := reAt_b I hr Pn H ix hs.1
    have by' := reAt_b I hr Pn H iy (hs.2.1 hk0)
    have fc : reFc (hd (3 * r)) (reVl u (hd (3 * r + 1))) (reVl u (hd (3 * r + 2))) := ⟨i1, bx, by'⟩
    refine ⟨fun z => absurd z (by decide), fun _ => ⟨by omega, T55_valueOf ix ⟨fun _ => ⟨by omega, T55_valueOf iy ?_⟩, fun z => absurd rfl z⟩⟩⟩
    rw [reVl_c H.1 ix, reVl_c H.1 iy]
    refine T55_code fc (T55_give (reCd_b fc) hk (fun S eS => T55_s257 I hr hs Pn (by rw [eS]; exact reGs_F (S := (rn, gv, fr, ly)) hF hnw) H (fun _ v' po' => ?_) (fun u L' e => absurd e (by simp))))
    rw [wX55_spread_75]
    exact ⟨fun _ => hK S (by rw [eS]; rfl) v' po', fun z => absurd rfl z⟩
  | cons u2 L ih =>
    intro u vs po rn gv fr ly hF H hk hK
    rw [show (u2 :: L).length + 2 = (L.length + 2) + 1 from rfl, wX55_spread_75]
    have bx := reAt_b I hr Pn H ix hs.1
    have by' := reAt_b I hr Pn H iy (hs.2.1 hk0)
    have fc : reFc (hd (3 * r)) (reVl u (hd (3 * r + 1))) (reVl u (hd (3 * r + 2))) := ⟨i1, bx, by'⟩
    refine ⟨fun z => absurd z (by decide), fun _ => ⟨by omega, T55_valueOf ix ⟨fun _ => ⟨by omega, T55_valueOf iy ?_⟩, fun z => absurd rfl z⟩⟩⟩
    rw [reVl_c H.1 ix, reVl_c H.1 iy]
    have hk1 : reGk round (rn, gv, fr, ly) 1 := ⟨fun r0 c c0 c1 => by have := hk.1 r0 c c0 c1; have e : ((u2 :: L).length : Int) = L.length + 1 := by simp
                                                                      omega, hk.2⟩
    refine T55_code fc (T55_give (reCd_b fc) hk1 (fun S eS => T55_s257 I hr hs Pn (by rw [eS]; exact reGs_F (S := (rn, gv, fr, ly)) hF hnw) H (fun e => absurd e (by simp)) (fun u3 L' e v' po' H' => ?_)))
    cases e
    refine ih u2 v' po' S.1 S.2.1 S.2.2.1 S.2.2.2 (by rw [eS]; exact reGs_F (S := (rn, gv, fr, ly)) hF hnw) H' ?_ (fun S' e' => hK S' ?_)
    · have := reGs_k (now := now) (reCd_b fc) (k := (L.length : Int) + 1) (round := round) (S := (rn, gv, fr, ly)) (by rw [show ((u2 :: L).length : Int) = (L.length : Int) + 1 by simp] at hk; exact hk) (by omega)
      rw [← eS] at this; exact this
    · rw [e', eS]; rfl
end
