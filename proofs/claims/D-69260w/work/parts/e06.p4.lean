/-! ProofChecker, the reference (X50): what comes, goes and is told -/
section
variable {ax tr ru ins ct pr st mk : Int → Int} {na nt n k root : Int}
def pcSg (t : Int) : Prop := t = 6 ∨ t = 7 ∨ t = 9
def pcAok (t a b : Int) : Prop := (1 ≤ t ∧ t ≤ 10) ∧ (0 ≤ a ∧ a < 1000) ∧ (pcSg t ∨ (0 ≤ b ∧ b < 1000))
/-- a statement laid as number k -/
def pcLy (f : Int → Int) (k a b c d : Int) : Int → Int := updI (updI (updI (updI f (4 * k) a) (4 * k + 1) b) (4 * k + 2) c) (4 * k + 3) d
theorem T50_axiom {post : Int → (Int → Int) → Int → Prop} {t a b : Int} (hn : 0 ≤ na ∧ na ≤ 100) (h2 : ¬ pcAok t a b → post (-2) ax na) (h4 : pcAok t a b → na = 100 → post (-4) ax na) (h1 : pcAok t a b → na ≠ 100 → ∀ c, (pcSg t → c = 0) → (¬ pcSg t → c = b) → post (na + 1) (pcLy ax (na + 1) t a c 0) (na + 1)) : wpX50_axiom post ax na t a b := by
  have fin : ∀ y : Int, (y = 0 ∧ ¬ pcSg t ∨ y = 1 ∧ pcSg t) → pcAok t a b → wX50_axiom_58 post t a b y ax na := by
    intro y hy ok
    unfold wX50_axiom_58
    refine ⟨fun e => h4 ok e, fun e => ⟨by omega, fun _ e1 => ⟨by omega, fun _ e2 => ⟨by omega, fun _ e3 => ⟨fun z => ⟨by omega, fun _ e4 => ⟨by omega, fun _ e5 => ?_⟩⟩, fun z => ⟨by omega, fun _ e4 => ⟨by omega, fun _ e5 => ?_⟩⟩⟩⟩⟩⟩⟩
    · subst e1 e2 e3 e4 e5
      exact h1 ok e b (fun w => by rcases hy with h | h; exact absurd w h.2; omega) (fun _ => rfl)
    · subst e1 e2 e3 e4 e5
      exact h1 ok e 0 (fun _ => rfl) (fun w => by rcases hy with h | h; omega; exact absurd h.2 w)
  have main : ∀ y : Int, (y = 0 ∧ ¬ pcSg t ∨ y = 1 ∧ pcSg t) → wX50_axiom_23 post t a b y ax na := by
    intro y hy
    unfold wX50_axiom_23
    refine ⟨fun z => h2 (fun w => by have := w.1; omega), fun z => ⟨fun z2 => h2 (fun w => by have := w.1; omega), fun z2 => T50_isTermB (fun a1 a2 => ⟨fun c => T50_isTermB (fun b1 b2 => fin y hy ⟨by omega, ⟨a1, a2⟩, Or.inr ⟨b1, b2⟩⟩) (fun w => h2 (fun v => ?_)), fun c => fin y hy ⟨by omega, ⟨a1, a2⟩, Or.inl ?_⟩⟩) (fun w => h2 (fun v => w v.2.1))⟩⟩
    · rcases v.2.2 with v | v
      · rcases hy with h | h
        · exact h.2 v
        · omega
      · exact w v
    · rcases hy with h | h
      · exact absurd h.1 c
      · exact h.2
  unfold wpX50_axiom
  unfold pcSg at main
  exact ⟨fun e => main 1 (Or.inr ⟨rfl, by omega⟩), fun e => ⟨fun e2 => main 1 (Or.inr ⟨rfl, by omega⟩), fun e2 => ⟨fun e3 => main 1 (Or.inr ⟨rfl, by omega⟩), fun e3 => main 0 (Or.inl ⟨rfl, by omega⟩)⟩⟩⟩
def pcTok (a b c : Int) : Prop := (0 ≤ a ∧ a < 1000) ∧ (0 ≤ b ∧ b < 1000) ∧ (0 ≤ c ∧ c < 1000)
/-- triple number k is (a, b, c) -/
def pcTk (tr : Int → Int) (a b c k : Int) : Prop := tr (4 * k + 1) = a ∧ tr (4 * k + 2) = b ∧ tr (4 * k + 3) = c
theorem T50_triple {post : Int → (Int → Int) → Int → Prop} {a b c : Int} (hn : 0 ≤ nt ∧ nt ≤ 100) (h2 : ¬ pcTok a b c → post (-2) tr nt) (hf : pcTok a b c → ∀ k, 1 ≤ k → k ≤ nt → pcTk tr a b c k → (∀ j, 1 ≤ j → j < k → ¬ pcTk tr a b c j) → post k tr nt) (h4 : pcTok a b c → (∀ j, 1 ≤ j → j ≤ nt → ¬ pcTk tr a b c j) → nt = 100 → post (-4) tr nt) (h1 : pcTok a b c → (∀ j, 1 ≤ j → j ≤ nt → ¬ pcTk tr a b c j) → nt ≠ 100 → post (nt + 1) (pcLy tr (nt + 1) 11 a b c) (nt + 1)) : wpX50_triple post tr nt a b c := by
  unfold wpX50_triple
  refine T50_isTermB (fun a1 a2 => T50_isTermB (fun b1 b2 => T50_isTermB (fun c1 c2 => ?_) (fun z => h2 (fun w => z w.2.2))) (fun z => h2 (fun w => z w.2.1))) (fun z => h2 (fun w => z w.1))
  have ok : pcTok a b c := ⟨⟨a1, a2⟩, ⟨b1, b2⟩, c1, c2⟩
  refine zl1 (fun m k => wX50_triple_27 _ _ a b c tr nt m k) (fun k => 1 ≤ k ∧ ∀ j, 1 ≤ j → j < k → ¬ pcTk tr a b c j) (nt + 1) ?_ ⟨by omega, fun j x y => by omega⟩ (by omega)
  rintro m k ⟨hk, hno⟩ hN ih
  rw [wX50_triple_27]
  have nx : k < nt + 1 → ¬ pcTk tr a b c k → (zR (k + 1) ∧ ∀ y : Int, y = k + 1 → _) := fun hlt w => ⟨by omega, fun _ e => by
    subst e
    refine ih (by omega) ⟨by omega, fun j x y => ?_⟩
    by_cases h : j = k
    · subst h; exact w
    · exact hno j x (by omega)⟩
  refine ⟨fun z => ⟨fun e => h4 ok (fun j x y => hno j x (by omega)) e, fun e => ⟨by omega, fun _ e1 => ⟨by omega, fun _ e2 => ⟨by omega, fun _ e3 => ⟨by omega, fun _ e4 => ⟨by omega, fun _ e5 => ?_⟩⟩⟩⟩⟩⟩, fun z => ⟨by omega, fun y1 => ⟨by omega, fun y2 => ⟨by omega, fun y3 => hf ok k hk (by omega) ⟨y1, y2, y3⟩ hno, fun y3 => nx (by omega) (fun w => y3 w.2.2)⟩, fun y2 => nx (by omega) (fun w => y2 w.2.1)⟩, fun y1 => nx (by omega) (fun w => y1 w.1)⟩⟩
  subst e1 e2 e3 e4 e5
  exact h1 ok (fun j x y => hno j x (by omega)) e
def pcIn (na nt r i : Int) : Prop := (r = 0 → 1 ≤ i ∧ i ≤ na) ∧ ((r = 1 ∨ r = 17) → 1 ≤ i ∧ i ≤ nt) ∧ (r = 2 → 0 ≤ i ∧ i < 1000)
theorem T50_instB {P Q : Prop} {r i : Int} (h1 : pcIn na nt r i → Q) (h0 : ¬ pcIn na nt r i → P) : wpX50_isInstance (fun v => (v = 0 → P) ∧ (¬ v = 0 → Q)) na nt r i := by
  unfold wpX50_isInstance
  unfold pcIn at h1 h0
  have no : ¬ ((r = 0 → 1 ≤ i ∧ i ≤ na) ∧ ((r = 1 ∨ r = 17) → 1 ≤ i ∧ i ≤ nt) ∧ (r = 2 → 0 ≤ i ∧ i < 1000)) → (((0 : Int) = 0 → P) ∧ (¬ (0 : Int) = 0 → Q)) := fun w => ⟨fun _ => h0 w, fun q => absurd rfl q⟩
  have yes : ((r = 0 → 1 ≤ i ∧ i ≤ na) ∧ ((r = 1 ∨ r = 17) → 1 ≤ i ∧ i ≤ nt) ∧ (r = 2 → 0 ≤ i ∧ i < 1000)) → (((1 : Int) = 0 → P) ∧ (¬ (1 : Int) = 0 → Q)) := fun w => ⟨fun q => absurd q (by decide), fun _ => h1 w⟩
  refine ⟨fun e => ⟨fun z => no (fun w => by have := w.1 e; omega), fun z => ⟨fun z2 => no (fun w => by have := w.1 e; omega), fun z2 => yes ⟨fun _ => by omega, fun w => by omega, fun w => by omega⟩⟩⟩, fun e => ⟨fun e1 => ⟨fun z => no (fun w => by have := w.2.1 (Or.inl e1); omega), fun z => ⟨fun z2 => no (fun w => by have := w.2.1 (Or.inl e1); omega), fun z2 => yes ⟨fun _ => by omega, fun w => by omega, fun w => by omega⟩⟩⟩, fun e1 => ⟨fun e2 => ⟨fun z => no (fun w => by have := w.2.1 (Or.inr e2); omega), fun z => ⟨fun z2 => no (fun w => by have := w.2.1 (Or.inr e2); omega), fun z2 => yes ⟨fun _ => by omega, fun w => by omega, fun w => by omega⟩⟩⟩, fun e2 => ⟨fun e3 => T50_isTermB (fun a b => yes ⟨fun w => by omega, fun w => by omega, fun _ => ⟨a, b⟩⟩) (fun z => no (fun w => z (w.2.2 e3))), fun e3 => yes ⟨fun w => absurd w e, fun w => by omega, fun w => absurd w e3⟩⟩⟩⟩⟩
def pcRok (na nt n r i p : Int) : Prop := ((0 ≤ r ∧ r ≤ 17) ∧ pcIn na nt r i ∧ (p = 0 ∨ ((1 ≤ p ∧ p ≤ n) ∧ pcT r ≠ 0))) ∧ n ≠ 300
theorem T50_row {post : Int → (Int → Int) → (Int → Int) → (Int → Int) → (Int → Int) → Int → Prop} {r i p : Int} (hn : 0 ≤ n ∧ n ≤ 300) (h0 : ¬ pcRok na nt n r i p → post 0 ru ins ct pr n) (h1 : pcRok na nt n r i p → ∀ pr', (p = 0 → pr' = pr) → (p ≠ 0 → pr' = updI pr (3 * (n + 1)) p) → ∀ ct', ct' = updI ct (n + 1) (if p = 0 then 0 else 1) → post (n + 1) (updI ru (n + 1) r) (updI ins (n + 1) i) ct' pr' (n + 1)) : wpX50_row post na nt ru ins ct pr n r i p := by
  unfold wpX50_row
  have fin : ((0 ≤ r ∧ r ≤ 17) ∧ pcIn na nt r i ∧ (p = 0 ∨ ((1 ≤ p ∧ p ≤ n) ∧ pcT r ≠ 0))) → wX50_row_38 post r i p ru ins ct pr n := by
    intro ok
    unfold wX50_row_38
    refine ⟨fun e => h0 (fun w => w.2 e), fun e => ⟨by omega, fun _ e1 => ⟨by omega, fun _ e2 _ e3 _ e4 => ⟨fun z => ?_, fun z => ?_⟩⟩⟩⟩
    · subst e1 e2 e3 e4
      exact h1 ⟨ok, e⟩ pr (fun _ => rfl) (fun w => absurd z w) _ (by rw [if_pos z])
    · unfold wpX50_lay
      subst e1 e2 e3 e4
      rw [updI_s]
      refine ⟨by omega, by omega, fun _ e5 => ⟨by omega, fun _ e6 _ e7 => ?_⟩⟩
      subst e5 e6 e7
      refine h1 ⟨ok, e⟩ _ (fun w => absurd w z) (fun _ => by rw [Int.add_zero]) _ ?_
      rw [if_neg z]
      funext j
      unfold updI
      split <;> rfl
  refine ⟨fun z => h0 (fun w => by have := w.1.1; omega), fun z => ⟨fun z2 => h0 (fun w => by have := w.1.1; omega), fun z2 => T50_instB (fun hi => ⟨fun e => fin ⟨by omega, hi, Or.inl e⟩, fun e => T50_isRowB (fun a b => T50_takes ⟨fun e2 => h0 (fun w => ?_), fun e2 => fin ⟨by omega, hi, Or.inr ⟨⟨a, b⟩, e2⟩⟩⟩) (fun w2 => h0 (fun w => ?_))⟩) (fun hi => h0 (fun w => hi w.1.2.1))⟩⟩
  · rcases w.1.2.2 with w | w
    · exact e w
    · exact w.2 e2
  · rcases w.1.2.2 with w | w
    · exact e w
    · exact w2 w.1
theorem T50_premise {post : Int → (Int → Int) → (Int → Int) → Prop} {r o : Int} (hI : pcI ru ins ct pr na nt n) (h2 : ¬ ((1 ≤ r ∧ r ≤ n) ∧ (1 ≤ o ∧ o ≤ n)) → post (-1) ct pr) (h3 : (1 ≤ r ∧ r ≤ n) ∧ (1 ≤ o ∧ o ≤ n) → ¬ (o < r ∧ ct r < pcT (ru r)) → post (-3) ct pr) (h1 : (1 ≤ r ∧ r ≤ n) ∧ (1 ≤ o ∧ o ≤ n) → (o < r ∧ ct r < pcT (ru r)) → post (ct r + 1) (updI ct r (ct r + 1)) (updI pr (3 * r + ct r) o)) : wpX50_premise post ru ct pr n r o := by
  have hn := hI.1
  unfold wpX50_premise
  refine T50_isRowB (fun a b => T50_isRowB (fun c d => ⟨fun z => h3 ⟨⟨a, b⟩, c, d⟩ (fun w => by omega), fun z => ⟨by omega, T50_takes ⟨fun e => ?_, fun e => h3 ⟨⟨a, b⟩, c, d⟩ (fun w => e w.2)⟩⟩⟩) (fun z => h2 (fun w => z w.2))) (fun z => h2 (fun w => z w.1))
  have := pcT_b (ru r)
  have R := (hI.2.2.2 r a b).2.1
  unfold wpX50_lay
  refine ⟨by omega, by omega, fun _ e5 => ⟨by omega, fun _ e6 _ e7 => ?_⟩⟩
  subst e5 e6 e7
  rw [updI_s]
  exact h1 ⟨⟨a, b⟩, c, d⟩ ⟨by omega, e⟩
theorem T50_name {post : Int → Prop} (hn : n ≤ 300) (hp : post (if 1 ≤ root ∧ root ≤ n then ru root else -1)) : wpX50_name post ru n root := by
  unfold wpX50_name
  refine T50_isRowB (fun a b => ⟨by omega, ?_⟩) (fun z => by rw [if_neg z] at hp; exact hp)
  rw [if_pos ⟨a, b⟩] at hp; exact hp
noncomputable def pcSta (S : Int → Int → Int) (n r w : Int) : Int := if 1 ≤ r ∧ r ≤ n then (if 0 ≤ w ∧ w ≤ 3 then S r w else -2) else -1
theorem T50_states {post : Int → (Int → Int) → Prop} {w : Int} (hI : pcI ru ins ct pr na nt n) (hp : ∀ st', post (pcSta (pcS ax tr ru ins ct pr) n root w) st') : wpX50_states post ax tr ru ins ct pr n st root w := by
  have hn := hI.1
  unfold wpX50_states
  unfold pcSta at hp
  refine T50_isRowB (fun a b => ?_) (fun z => by rw [if_neg z] at hp; exact hp _)
  rw [if_pos ⟨a, b⟩] at hp
  refine ⟨fun z => by rw [if_neg (by omega)] at hp; exact hp _, fun z => ⟨fun z2 => T50_work hI ⟨by omega, b⟩ (fun st' W => ⟨by omega, ?_⟩), fun z2 => by rw [if_neg (by omega)] at hp; exact hp _⟩⟩
  rw [if_pos (by omega)] at hp
  rw [W root a (Int.le_refl _) w (by omega) (by omega)]
  exact hp _
end
