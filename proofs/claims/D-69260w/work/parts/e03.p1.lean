/-! ProofChecker: one state for both sides; the reference (X50): what rows state -/
def pcT (r : Int) : Int := if r < 3 then 0 else if r = 12 ∨ r = 17 then 1 else if r = 10 ∨ r = 14 ∨ r = 15 then 3 else 2
def pcM (k a b c : Int) : Int → Int := fun j => if j = 0 then k else if j = 1 then a else if j = 2 then b else c
def pcZ : Int → Int := fun _ => 0
/-- what a rule gives by an instance and what premises state -/
def pcG (r n : Int) (ax tr s0 s1 s2 : Int → Int) : Int → Int :=
  if r = 0 then pcM (ax (4 * n)) (ax (4 * n + 1)) (ax (4 * n + 2)) (ax (4 * n + 3)) else
  if r = 1 then pcM (tr (4 * n)) (tr (4 * n + 1)) (tr (4 * n + 2)) (tr (4 * n + 3)) else
  if r = 2 then pcM 1 n n 0 else
  if r = 3 then (if s0 0 = 1 ∧ s1 0 = 1 ∧ s0 2 = s1 1 then pcM 1 (s0 1) (s1 2) 0 else pcZ) else
  if r = 4 then (if s0 0 = 2 ∧ s1 0 = 2 ∧ s0 2 = s1 1 then pcM 2 (s0 1) (s1 2) 0 else pcZ) else
  if r = 5 then (if s0 0 = 1 ∧ s1 0 = 11 ∧ s1 2 = 0 ∧ s1 3 = s0 1 then pcM 11 (s1 1) 0 (s0 2) else pcZ) else
  if r = 6 then (if s0 0 = 2 ∧ s1 0 = 11 ∧ s1 2 = s0 1 then pcM 11 (s1 1) (s0 2) (s1 3) else pcZ) else
  if r = 7 then (if s0 0 = 3 ∧ s1 0 = 11 ∧ s1 2 = s0 1 then pcM 11 (s1 1) 0 (s0 2) else pcZ) else
  if r = 8 then (if s0 0 = 4 ∧ s1 0 = 11 ∧ s1 2 = s0 1 then pcM 11 (s1 3) 0 (s0 2) else pcZ) else
  if r = 9 then (if s0 0 = 7 ∧ s1 0 = 11 ∧ s1 2 = s0 1 then pcM 11 (s1 3) (s1 2) (s1 1) else pcZ) else
  if r = 10 then (if s0 0 = 6 ∧ s1 0 = 11 ∧ s1 2 = s0 1 ∧ s2 0 = 11 ∧ s2 2 = s0 1 ∧ s1 3 = s2 1 then pcM 11 (s1 1) (s1 2) (s2 3) else pcZ) else
  if r = 11 then (if s0 0 = 8 ∧ s1 0 = 11 ∧ s1 2 = s0 1 then pcM 11 (s1 3) (s0 2) (s1 1) else pcZ) else
  if r = 12 then (if s0 0 = 11 ∧ s0 2 = 1 then pcM 11 (s0 3) 1 (s0 1) else pcZ) else
  if r = 13 then (if s0 0 = 11 ∧ s0 2 = 1 ∧ s1 0 = 11 ∧ s1 1 = s0 1 then pcM 11 (s0 3) (s1 2) (s1 3) else pcZ) else
  if r = 14 then (if s0 0 = 9 ∧ s1 0 = 11 ∧ s1 2 = s0 1 ∧ s2 0 = 11 ∧ s2 2 = s0 1 ∧ s1 1 = s2 1 then pcM 11 (s1 3) 1 (s2 3) else pcZ) else
  if r = 15 then (if s0 0 = 5 ∧ s1 0 = 11 ∧ s1 2 = 0 ∧ s2 0 = 11 ∧ s2 2 = 0 ∧ s1 3 = s0 1 ∧ s2 3 = s0 2 ∧ s1 1 = s2 1 then pcM 12 0 0 0 else pcZ) else
  if r = 16 then (if s0 0 = 10 ∧ s1 0 = 11 ∧ s1 2 = 1 ∧ s1 1 = s0 1 ∧ s1 3 = s0 2 then pcM 12 0 0 0 else pcZ) else
  if r = 17 then (if s0 0 = 12 then pcM (tr (4 * n)) (tr (4 * n + 1)) (tr (4 * n + 2)) (tr (4 * n + 3)) else pcZ) else pcZ
theorem pcG_10 {n : Int} {ax tr s0 s1 s2 : Int → Int} : pcG 10 n ax tr s0 s1 s2 = if s0 0 = 6 ∧ s1 0 = 11 ∧ s1 2 = s0 1 ∧ s2 0 = 11 ∧ s2 2 = s0 1 ∧ s1 3 = s2 1 then pcM 11 (s1 1) (s1 2) (s2 3) else pcZ := rfl
theorem pcG_14 {n : Int} {ax tr s0 s1 s2 : Int → Int} : pcG 14 n ax tr s0 s1 s2 = if s0 0 = 9 ∧ s1 0 = 11 ∧ s1 2 = s0 1 ∧ s2 0 = 11 ∧ s2 2 = s0 1 ∧ s1 1 = s2 1 then pcM 11 (s1 3) 1 (s2 3) else pcZ := rfl
theorem pcG_15 {n : Int} {ax tr s0 s1 s2 : Int → Int} : pcG 15 n ax tr s0 s1 s2 = if s0 0 = 5 ∧ s1 0 = 11 ∧ s1 2 = 0 ∧ s2 0 = 11 ∧ s2 2 = 0 ∧ s1 3 = s0 1 ∧ s2 3 = s0 2 ∧ s1 1 = s2 1 then pcM 12 0 0 0 else pcZ := rfl
/-- rows: rule, instance, how many premises, three of them; axioms and triples: how many -/
def pcRw (ru ins ct pr : Int → Int) (na nt r : Int) : Prop := (0 ≤ ru r ∧ ru r ≤ 17) ∧ (0 ≤ ct r ∧ ct r ≤ pcT (ru r)) ∧ (∀ i, 0 ≤ i → i < ct r → 1 ≤ pr (3 * r + i) ∧ pr (3 * r + i) < r) ∧ (ru r = 0 → 1 ≤ ins r ∧ ins r ≤ na) ∧ ((ru r = 1 ∨ ru r = 17) → 1 ≤ ins r ∧ ins r ≤ nt) ∧ (ru r = 2 → 0 ≤ ins r ∧ ins r < 1000)
def pcI (ru ins ct pr : Int → Int) (na nt n : Int) : Prop := (0 ≤ n ∧ n ≤ 300) ∧ (0 ≤ na ∧ na ≤ 100) ∧ (0 ≤ nt ∧ nt ≤ 100) ∧ ∀ r, 1 ≤ r → r ≤ n → pcRw ru ins ct pr na nt r
theorem pcT_b (r : Int) : 0 ≤ pcT r ∧ pcT r ≤ 3 := by unfold pcT; split <;> (try split) <;> (try split) <;> omega
/-- whether a row's premises are there and right -/
def pcGd (ru ct pr : Int → Int) (S : Int → Int → Int) (r : Int) : Prop := ct r = pcT (ru r) ∧ ∀ i, 0 ≤ i → i < ct r → ¬ S (pr (3 * r + i)) 0 = 0
noncomputable def pcR (ax tr ru ins ct pr : Int → Int) : Nat → Int → Int → Int
  | 0 => fun _ => pcZ
  | k + 1 => updI (pcR ax tr ru ins ct pr k) (k + 1) (pif (pcGd ru ct pr (pcR ax tr ru ins ct pr k) (k + 1)) (pcG (ru (k + 1)) (ins (k + 1)) ax tr (pcR ax tr ru ins ct pr k (pr (3 * (k + 1)))) (pcR ax tr ru ins ct pr k (pr (3 * (k + 1) + 1))) (pcR ax tr ru ins ct pr k (pr (3 * (k + 1) + 2)))) pcZ)
/-- what row r states -/
noncomputable def pcS (ax tr ru ins ct pr : Int → Int) (r : Int) : Int → Int := pcR ax tr ru ins ct pr r.toNat r
section
variable {ax tr ru ins ct pr st : Int → Int} {na nt n k : Int} {S : Int → Int → Int}
theorem pcR_S : ∀ {k : Nat} {r : Int}, 1 ≤ r → r ≤ k → pcR ax tr ru ins ct pr k r = pcS ax tr ru ins ct pr r
  | 0, r, h0, h => by omega
  | k + 1, r, h0, h => by
    by_cases hr : r = ((k + 1 : Nat) : Int)
    · subst hr; unfold pcS; rw [Int.toNat_natCast]
    · rw [pcR, updI_n (by omega)]; exact pcR_S h0 (by omega)
theorem T50_isTermB {P Q : Prop} {v : Int} (h1 : 0 ≤ v → v < 1000 → Q) (h0 : ¬ (0 ≤ v ∧ v < 1000) → P) : wpX50_isTerm (fun r => (r = 0 → P) ∧ (¬ r = 0 → Q)) v := by
  unfold wpX50_isTerm
  refine ⟨fun a => ⟨fun _ => h0 (by omega), fun q => absurd rfl q⟩, fun a => ⟨fun b => ⟨fun _ => h0 (by omega), fun q => absurd rfl q⟩, fun b => ⟨fun q => absurd q (by decide), fun _ => h1 (by omega) (by omega)⟩⟩⟩
theorem T50_isRowB {P Q : Prop} {v : Int} (h1 : 1 ≤ v → v ≤ n → Q) (h0 : ¬ (1 ≤ v ∧ v ≤ n) → P) : wpX50_isRow (fun r => (r = 0 → P) ∧ (¬ r = 0 → Q)) n v := by
  unfold wpX50_isRow
  refine ⟨fun a => ⟨fun _ => h0 (by omega), fun q => absurd rfl q⟩, fun a => ⟨fun b => ⟨fun _ => h0 (by omega), fun q => absurd rfl q⟩, fun b => ⟨fun q => absurd q (by decide), fun _ => h1 (by omega) (by omega)⟩⟩⟩
theorem T50_takes {post : Int → Prop} {r : Int} (hp : post (pcT r)) : wpX50_takes post r := by
  unfold wpX50_takes
  unfold pcT at hp
  refine ⟨fun a => ?_, fun a => ?_⟩
  · rw [if_neg (by omega)] at hp
    refine ⟨fun b => by rw [if_pos (Or.inl b)] at hp; exact hp, fun b => ⟨fun c => by rw [if_pos (Or.inr c)] at hp; exact hp, fun c => ?_⟩⟩
    rw [if_neg (by omega)] at hp
    exact ⟨fun d => by rw [if_pos (Or.inl d)] at hp; exact hp, fun d => ⟨fun e => by rw [if_pos (Or.inr (Or.inl e))] at hp; exact hp, fun e => ⟨fun f => by rw [if_pos (Or.inr (Or.inr f))] at hp; exact hp, fun f => by rw [if_neg (by omega)] at hp; exact hp⟩⟩⟩
  · rw [if_pos (by omega)] at hp; exact hp
/-- the row k is laid -/
def pcL (st st' : Int → Int) (k : Int) (G : Int → Int) : Prop := (∀ j, 0 ≤ j → j < 4 → st' (4 * k + j) = G j) ∧ ∀ x, x < 4 * k → st' x = st x
theorem pcL_of {a b c d : Int} : pcL st (updI (updI (updI (updI st (4 * k) a) (4 * k + 1) b) (4 * k + 2) c) (4 * k + 3) d) k (pcM a b c d) := by
  refine ⟨fun j j0 j1 => ?_, fun x hx => ?_⟩
  · have : j = 0 ∨ j = 1 ∨ j = 2 ∨ j = 3 := by omega
    rcases this with rfl | rfl | rfl | rfl
    · rw [updI_n (by omega), updI_n (by omega), updI_n (by omega), Int.add_zero, updI_s]; rfl
    · rw [updI_n (by omega), updI_n (by omega), updI_s]; rfl
    · rw [updI_n (by omega), updI_s]; rfl
    · rw [updI_s]; rfl
  · rw [updI_n (by omega), updI_n (by omega), updI_n (by omega), updI_n (by omega)]
theorem T50_state {post : (Int → Int) → Prop} {a b c d : Int} (hk : 0 ≤ k ∧ k < 301) (hp : ∀ st', pcL st st' k (pcM a b c d) → post st') : wpX50_state post st k a b c d := by
  unfold wpX50_state
  refine ⟨by omega, fun _ e1 => ⟨by omega, fun _ e2 => ⟨by omega, fun _ e3 => ⟨by omega, fun _ e4 => ?_⟩⟩⟩⟩
  subst e1 e2 e3 e4
  exact hp _ pcL_of
/-- what premises of row k state -/
def pcPm (st pr ct : Int → Int) (S : Int → Int → Int) (k : Int) : Prop := (1 ≤ k ∧ k < 301) ∧ ct k ≤ 3 ∧ ∀ i, 0 ≤ i → i < ct k → (1 ≤ pr (3 * k + i) ∧ pr (3 * k + i) < k) ∧ ∀ j, 0 ≤ j → j < 4 → st (4 * pr (3 * k + i) + j) = S (pr (3 * k + i)) j
theorem T50_of {post : Int → Prop} {i j : Int} (H : pcPm st pr ct S k) (hi : 0 ≤ i ∧ i < ct k) (hj : 0 ≤ j ∧ j < 4) (hp : post (S (pr (3 * k + i)) j)) : wpX50_of post pr st k i j := by
  obtain ⟨h1, h2, h3⟩ := H
  have := h3 i hi.1 hi.2
  unfold wpX50_of
  refine ⟨by omega, by omega, ?_⟩
  rw [this.2 j hj.1 hj.2]; exact hp
theorem T50_isB {P Q : Prop} {i K : Int} (H : pcPm st pr ct S k) (hi : 0 ≤ i ∧ i < ct k) (h1 : S (pr (3 * k + i)) 0 = K → Q) (h0 : ¬ S (pr (3 * k + i)) 0 = K → P) : wpX50_is (fun r => (r = 0 → P) ∧ (¬ r = 0 → Q)) pr st k i K := by
  unfold wpX50_is
  exact T50_of H hi (by decide) ⟨fun e => ⟨fun q => absurd q (by decide), fun _ => h1 e⟩, fun e => ⟨fun _ => h0 e, fun q => absurd rfl q⟩⟩
theorem T50_142 {post : (Int → Int) → Prop} {x2 x3 x4 x5 x6 x7 x8 : Int} (hk : 0 ≤ k ∧ k < 301) (h : ¬ ru k = 15) (hp : post st) : wX50_three_142 post k x2 x3 x4 x5 x6 x7 x8 ru pr st := by
  unfold wX50_three_142
  exact ⟨hk, fun e => absurd e h, fun _ => hp⟩
theorem T50_89 {post : (Int → Int) → Prop} {x2 x3 x4 x5 x6 x7 x8 : Int} (hk : 0 ≤ k ∧ k < 301) (h : ¬ ru k = 15) (h' : ¬ ru k = 14) (hp : post st) : wX50_three_89 post k x2 x3 x4 x5 x6 x7 x8 ru pr st := by
  unfold wX50_three_89
  exact ⟨hk, fun e => absurd e h', fun _ => T50_142 hk h hp⟩
theorem T50_three {post : (Int → Int) → Prop} {x p y : Int} {G : Int → Int} (H : pcPm st pr ct S k) (hc : ct k = 3) (hr : ru k = 10 ∨ ru k = 14 ∨ ru k = 15) (ex : x = S (pr (3 * k + 1)) 1) (ep : p = S (pr (3 * k + 1)) 2) (ey : y = S (pr (3 * k + 1)) 3) (a1 : S (pr (3 * k + 1)) 0 = 11) (a2 : S (pr (3 * k + 2)) 0 = 11)
    (hG : G = pcG (ru k) (ins k) ax tr (S (pr (3 * k + 0))) (S (pr (3 * k + 1))) (S (pr (3 * k + 2)))) (hz : ∀ j, 0 ≤ j → j < 4 → st (4 * k + j) = 0) (hp : ∀ st', pcL st st' k G → post st') : wpX50_three post ru pr st k x p y := by
  have hk : 0 ≤ k ∧ k < 301 := by have := H.1; omega
  have no : G = pcZ → post st := fun e => hp st ⟨fun j j0 j1 => by rw [e]; exact hz j j0 j1, fun _ _ => rfl⟩
  have yes : ∀ {st' a b c d}, G = pcM a b c d → pcL st st' k (pcM a b c d) → post st' := fun e L => hp _ (by rw [e]; exact L)
  unfold wpX50_three
  refine T50_of H (by omega) (by decide) (T50_of H (by omega) (by decide) (T50_of H (by omega) (by decide) (T50_of H (by omega) (by decide) ⟨hk, fun e => ?_, fun e => ?_⟩)))
  · have g : G = if S (pr (3 * k + 0)) 0 = 6 ∧ S (pr (3 * k + 1)) 0 = 11 ∧ S (pr (3 * k + 1)) 2 = S (pr (3 * k + 0)) 1 ∧ S (pr (3 * k + 2)) 0 = 11 ∧ S (pr (3 * k + 2)) 2 = S (pr (3 * k + 0)) 1 ∧ S (pr (3 * k + 1)) 3 = S (pr (3 * k + 2)) 1 then pcM 11 (S (pr (3 * k + 1)) 1) (S (pr (3 * k + 1)) 2) (S (pr (3 * k + 2)) 3) else pcZ := by rw [hG, e]; rfl
    have f : ∀ {st'}, post st' → wX50_three_89 post k x p y (S (pr (3 * k + 0)) 1) (S (pr (3 * k + 2)) 1) (S (pr (3 * k + 2)) 2) (S (pr (3 * k + 2)) 3) ru pr st' := fun h => T50_89 hk (by omega) (by omega) h
    subst ex ep ey
    refine T50_isB H (by omega) (fun c1 => ⟨fun c2 => ⟨fun c3 => ⟨fun c4 => T50_state hk (fun st' L => f (yes (by rw [g, if_pos ⟨c1, a1, c2, a2, c3, c4⟩]) L)), fun c4 => f (no ?_)⟩, fun c3 => f (no ?_)⟩, fun c2 => f (no ?_)⟩) (fun c1 => f (no ?_))
    · rw [g, if_neg (fun w => c4 w.2.2.2.2.2)]
    · rw [g, if_neg (fun w => c3 w.2.2.2.2.1)]
    · rw [g, if_neg (fun w => c2 w.2.2.1)]
    · rw [g, if_neg (fun w => c1 w.1)]
  · unfold wX50_three_89
    refine ⟨hk, fun e14 => ?_, fun e14 => ?_⟩
    · have g : G = if S (pr (3 * k + 0)) 0 = 9 ∧ S (pr (3 * k + 1)) 0 = 11 ∧ S (pr (3 * k + 1)) 2 = S (pr (3 * k + 0)) 1 ∧ S (pr (3 * k + 2)) 0 = 11 ∧ S (pr (3 * k + 2)) 2 = S (pr (3 * k + 0)) 1 ∧ S (pr (3 * k + 1)) 1 = S (pr (3 * k + 2)) 1 then pcM 11 (S (pr (3 * k + 1)) 3) 1 (S (pr (3 * k + 2)) 3) else pcZ := by rw [hG, e14]; rfl
      have f : ∀ {st'}, post st' → wX50_three_142 post k x p y (S (pr (3 * k + 0)) 1) (S (pr (3 * k + 2)) 1) (S (pr (3 * k + 2)) 2) (S (pr (3 * k + 2)) 3) ru pr st' := fun h => T50_142 hk (by omega) h
      subst ex ep ey
      refine T50_isB H (by omega) (fun c1 => ⟨fun c2 => ⟨fun c3 => ⟨fun c4 => T50_state hk (fun st' L => f (yes (by rw [g, if_pos ⟨c1, a1, c2, a2, c3, c4⟩]) L)), fun c4 => f (no ?_)⟩, fun c3 => f (no ?_)⟩, fun c2 => f (no ?_)⟩) (fun c1 => f (no ?_))
      · rw [g, if_neg (fun w => c4 w.2.2.2.2.2)]
      · rw [g, if_neg (fun w => c3 w.2.2.2.2.1)]
      · rw [g, if_neg (fun w => c2 w.2.2.1)]
      · rw [g, if_neg (fun w => c1 w.1)]
    · unfold wX50_three_142
      refine ⟨hk, fun e15 => ?_, fun e15 => by omega⟩
      have g : G = if S (pr (3 * k + 0)) 0 = 5 ∧ S (pr (3 * k + 1)) 0 = 11 ∧ S (pr (3 * k + 1)) 2 = 0 ∧ S (pr (3 * k + 2)) 0 = 11 ∧ S (pr (3 * k + 2)) 2 = 0 ∧ S (pr (3 * k + 1)) 3 = S (pr (3 * k + 0)) 1 ∧ S (pr (3 * k + 2)) 3 = S (pr (3 * k + 0)) 2 ∧ S (pr (3 * k + 1)) 1 = S (pr (3 * k + 2)) 1 then pcM 12 0 0 0 else pcZ := by rw [hG, e15]; rfl
      subst ex ep ey
      refine T50_isB H (by omega) (fun c1 => ⟨fun c2 => ⟨fun c3 => ⟨fun c4 => T50_of H (by omega) (by decide) ⟨fun c5 => ⟨fun c6 => T50_state hk (fun st' L => yes (by rw [g, if_pos ⟨c1, a1, c2, a2, c3, c4, c5, c6⟩]) L), fun c6 => no ?_⟩, fun c5 => no ?_⟩, fun c4 => no ?_⟩, fun c3 => no ?_⟩, fun c2 => no ?_⟩) (fun c1 => no ?_)
      · rw [g, if_neg (fun w => c6 w.2.2.2.2.2.2.2)]
      · rw [g, if_neg (fun w => c5 w.2.2.2.2.2.2.1)]
      · rw [g, if_neg (fun w => c4 w.2.2.2.2.2.1)]
      · rw [g, if_neg (fun w => c3 w.2.2.2.2.1)]
      · rw [g, if_neg (fun w => c2 w.2.2.1)]
      · rw [g, if_neg (fun w => c1 w.1)]
theorem T50_c93 {post : (Int → Int) → Prop} {arc x p y : Int} {G : Int → Int} (H : pcPm st pr ct S k) (hct : ct k = pcT (ru k)) (hr : 3 ≤ ru k ∧ ru k ≤ 17) (h2 : 2 ≤ ct k → ((¬ arc = 0 ↔ S (pr (3 * k + 1)) 0 = 11) ∧ x = S (pr (3 * k + 1)) 1 ∧ p = S (pr (3 * k + 1)) 2 ∧ y = S (pr (3 * k + 1)) 3)) (hn : ru k = 17 → 1 ≤ ins k ∧ ins k ≤ 100)
    (hG : G = pcG (ru k) (ins k) ax tr (S (pr (3 * k + 0))) (S (pr (3 * k + 1))) (S (pr (3 * k + 2)))) (hz : ∀ j, 0 ≤ j → j < 4 → st (4 * k + j) = 0) (hp : ∀ st', pcL st st' k G → post st') : wX50_chain_93 post k arc x p y tr ru ins pr st := by
  have hk : 0 ≤ k ∧ k < 301 := by have := H.1; omega
  have no : G = pcZ → post st := fun e => hp st ⟨fun j j0 j1 => by rw [e]; exact hz j j0 j1, fun _ _ => rfl⟩
  have yes : ∀ {a b c d}, G = pcM a b c d → wpX50_state (fun s => post s) st k a b c d := fun e => T50_state hk (fun st' L => hp _ (by rw [e]; exact L))
  have c1 : 1 ≤ ct k := by rw [hct]; unfold pcT; rw [if_neg (by omega)]; split <;> (try split) <;> omega
  have c2 : ru k ≠ 12 → ru k ≠ 17 → 2 ≤ ct k := by intro e1 e2; rw [hct]; unfold pcT; rw [if_neg (by omega), if_neg (by omega)]; split <;> omega
  have c3 : ru k = 10 ∨ ru k = 14 ∨ ru k = 15 → ct k = 3 := by intro e; rw [hct]; unfold pcT; rw [if_neg (by omega), if_neg (by omega), if_pos e]
  unfold wX50_chain_93
  refine T50_of H (by omega) (by decide) (T50_of H (by omega) (by decide) ⟨hk, fun z ez => ?_⟩)
  have three : ru k = 10 ∨ ru k = 14 ∨ ru k = 15 → wX50_chain_627 post k arc x p y ru pr st := by
    intro e
    obtain ⟨q1, q2, q3, q4⟩ := h2 (by have := c3 e; omega)
    have gz : ¬ S (pr (3 * k + 1)) 0 = 11 ∨ ¬ S (pr (3 * k + 2)) 0 = 11 → G = pcZ := by
      intro w
      rcases e with e | e | e
      · rw [hG, e, pcG_10, if_neg (fun v => w.elim (fun w => w v.2.1) (fun w => w v.2.2.2.1))]
      · rw [hG, e, pcG_14, if_neg (fun v => w.elim (fun w => w v.2.1) (fun w => w v.2.2.2.1))]
      · rw [hG, e, pcG_15, if_neg (fun v => w.elim (fun w => w v.2.1) (fun w => w v.2.2.2.1))]
    unfold wX50_chain_627
    refine ⟨fun a => no (gz (Or.inl (fun w => q1.mpr w a))), fun a => T50_isB H (by have := c3 e; omega) (fun b => T50_three H (c3 e) e q2 q3 q4 (q1.mp a) b hG hz hp) (fun b => no (gz (Or.inr b)))⟩
  have chain : (ru k = 3 ∨ ru k = 4) → wX50_chain_192 post k x p (S (pr (3 * k + 0)) 1) (S (pr (3 * k + 0)) 2) ru pr st := by
    intro e
    obtain ⟨q1, q2, q3, q4⟩ := h2 (c2 (by omega) (by omega))
    have cc := c2 (by omega) (by omega)
    have g : G = if S (pr (3 * k + 0)) 0 = ru k - 2 ∧ S (pr (3 * k + 1)) 0 = ru k - 2 ∧ S (pr (3 * k + 0)) 2 = S (pr (3 * k + 1)) 1 then pcM (ru k - 2) (S (pr (3 * k + 0)) 1) (S (pr (3 * k + 1)) 2) 0 else pcZ := by
      rcases e with e | e <;> rw [hG, e] <;> rfl
    unfold wX50_chain_192
    refine ⟨hk, by omega, fun v ev => ?_⟩
    subst ev q2 q3
    refine T50_isB H (by omega) (fun a => T50_isB H (by omega) (fun b => ⟨fun d => yes (by rw [g, if_pos ⟨a, b, d⟩]), fun d => no ?_⟩) (fun b => no ?_)) (fun a => no ?_)
    · rw [g, if_neg (fun w => d w.2.2)]
    · rw [g, if_neg (fun w => b w.2.1)]
    · rw [g, if_neg (fun w => a w.1)]
  -- a statement about a property, and a triple of it
  have prop : ∀ {K a b c}, 2 ≤ ct k → (G = if S (pr (3 * k + 0)) 0 = K ∧ S (pr (3 * k + 1)) 0 = 11 ∧ S (pr (3 * k + 1)) 2 = S (pr (3 * k + 0)) 1 then pcM 11 a b c else pcZ) → wpX50_is (fun r_40 => (r_40 = 0 → post st) ∧ (¬ r_40 = 0 → ((arc = 0 → post st) ∧ (¬ arc = 0 → ((p = S (pr (3 * k + 0)) 1 → wpX50_state (fun s => post s) st k 11 a b c) ∧ (¬ p = S (pr (3 * k + 0)) 1 → post st)))))) pr st k 0 K := by
    intro K a b c cc g
    obtain ⟨q1, q2, q3, q4⟩ := h2 cc
    subst q3
    refine T50_isB H (by omega) (fun u => ⟨fun v => no ?_, fun v => ⟨fun w => yes (by rw [g, if_pos ⟨u, q1.mp v, w⟩]), fun w => no ?_⟩⟩) (fun u => no ?_)
    · rw [g, if_neg (fun y => q1.mpr y.2.1 v)]
    · rw [g, if_neg (fun y => w y.2.2)]
    · rw [g, if_neg (fun y => u y.1)]
  refine ⟨fun e => chain (Or.inl (by omega)), fun n3 => ⟨fun e => chain (Or.inr (by omega)), fun n4 => ⟨fun e => ?_, fun n5 => ⟨fun e => ?_, fun n6 => ⟨fun e => ?_, fun n7 => ⟨fun e => ?_, fun n8 => ⟨fun e => ?_, fun n9 => ⟨fun e => three (by omega), fun n10 => ⟨fun e => ?_, fun n11 => ⟨fun e => ?_, fun n12 => ⟨fun e => ?_, fun n13 => ⟨fun e => three (by omega), fun n14 => ⟨fun e => three (by omega), fun n15 => ⟨fun e => ?_, fun n16 => ⟨fun e => ?_, fun n17 => by omega⟩⟩⟩⟩⟩⟩⟩⟩⟩⟩⟩⟩⟩⟩⟩
  all_goals rw [ez] at e
  · have cc := c2 (by omega) (by omega)
    obtain ⟨q1, q2, q3, q4⟩ := h2 cc
    have g : G = if S (pr (3 * k + 0)) 0 = 1 ∧ S (pr (3 * k + 1)) 0 = 11 ∧ S (pr (3 * k + 1)) 2 = 0 ∧ S (pr (3 * k + 1)) 3 = S (pr (3 * k + 0)) 1 then pcM 11 (S (pr (3 * k + 1)) 1) 0 (S (pr (3 * k + 0)) 2) else pcZ := by rw [hG, e]; rfl
    subst q2 q3 q4
    refine T50_isB H (by omega) (fun u => ⟨fun v => no ?_, fun v => ⟨fun w => ⟨fun w2 => yes (by rw [g, if_pos ⟨u, q1.mp v, w, w2⟩]), fun w2 => no ?_⟩, fun w => no ?_⟩⟩) (fun u => no ?_)
    · rw [g, if_neg (fun y => q1.mpr y.2.1 v)]
    · rw [g, if_neg (fun y => w2 y.2.2.2)]
    · rw [g, if_neg (fun y => w y.2.2.1)]
    · rw [g, if_neg (fun y => u y.1)]
  · have cc := c2 (by omega) (by omega)
    obtain ⟨q1, q2, q3, q4⟩ := h2 cc
    exact prop cc (by rw [hG, e, q2, q4]; rfl)
  · have cc := c2 (by omega) (by omega)
    obtain ⟨q1, q2, q3, q4⟩ := h2 cc
    exact prop cc (by rw [hG, e, q2]; rfl)
  · have cc := c2 (by omega) (by omega)
    obtain ⟨q1, q2, q3, q4⟩ := h2 cc
    exact prop cc (by rw [hG, e, q4]; rfl)
  · have cc := c2 (by omega) (by omega)
    obtain ⟨q1, q2, q3, q4⟩ := h2 cc
    exact prop cc (by rw [hG, e, q2, q3, q4]; rfl)
  · have cc := c2 (by omega) (by omega)
    obtain ⟨q1, q2, q3, q4⟩ := h2 cc
    exact prop cc (by rw [hG, e, q2, q4]; rfl)
  · have g : G = if S (pr (3 * k + 0)) 0 = 11 ∧ S (pr (3 * k + 0)) 2 = 1 then pcM 11 (S (pr (3 * k + 0)) 3) 1 (S (pr (3 * k + 0)) 1) else pcZ := by rw [hG, e]; rfl
    refine T50_isB H (by omega) (fun u => ⟨fun v => T50_of H (by omega) (by decide) (yes (by rw [g, if_pos ⟨u, v⟩])), fun v => no ?_⟩) (fun u => no ?_)
    · rw [g, if_neg (fun y => v y.2)]
    · rw [g, if_neg (fun y => u y.1)]
  · have cc := c2 (by omega) (by omega)
    obtain ⟨q1, q2, q3, q4⟩ := h2 cc
    have g : G = if S (pr (3 * k + 0)) 0 = 11 ∧ S (pr (3 * k + 0)) 2 = 1 ∧ S (pr (3 * k + 1)) 0 = 11 ∧ S (pr (3 * k + 1)) 1 = S (pr (3 * k + 0)) 1 then pcM 11 (S (pr (3 * k + 0)) 3) (S (pr (3 * k + 1)) 2) (S (pr (3 * k + 1)) 3) else pcZ := by rw [hG, e]; rfl
    subst q2 q3 q4
    refine T50_isB H (by omega) (fun u => ⟨fun v => ⟨fun w => no ?_, fun w => ⟨fun w2 => T50_of H (by omega) (by decide) (yes (by rw [g, if_pos ⟨u, v, q1.mp w, w2⟩])), fun w2 => no ?_⟩⟩, fun v => no ?_⟩) (fun u => no ?_)
    · rw [g, if_neg (fun y => q1.mpr y.2.2.1 w)]
    · rw [g, if_neg (fun y => w2 y.2.2.2)]
    · rw [g, if_neg (fun y => v y.2.1)]
    · rw [g, if_neg (fun y => u y.1)]
  · have cc := c2 (by omega) (by omega)
    obtain ⟨q1, q2, q3, q4⟩ := h2 cc
    have g : G = if S (pr (3 * k + 0)) 0 = 10 ∧ S (pr (3 * k + 1)) 0 = 11 ∧ S (pr (3 * k + 1)) 2 = 1 ∧ S (pr (3 * k + 1)) 1 = S (pr (3 * k + 0)) 1 ∧ S (pr (3 * k + 1)) 3 = S (pr (3 * k + 0)) 2 then pcM 12 0 0 0 else pcZ := by rw [hG, e]; rfl
    subst q2 q3 q4
    refine T50_isB H (by omega) (fun u => ⟨fun v => no ?_, fun v => ⟨fun w => ⟨fun w2 => ⟨fun w3 => yes (by rw [g, if_pos ⟨u, q1.mp v, w, w2, w3⟩]), fun w3 => no ?_⟩, fun w2 => no ?_⟩, fun w => no ?_⟩⟩) (fun u => no ?_)
    · rw [g, if_neg (fun y => q1.mpr y.2.1 v)]
    · rw [g, if_neg (fun y => w3 y.2.2.2.2)]
    · rw [g, if_neg (fun y => w2 y.2.2.2.1)]
    · rw [g, if_neg (fun y => w y.2.2.1)]
    · rw [g, if_neg (fun y => u y.1)]
  · have g : G = if S (pr (3 * k + 0)) 0 = 12 then pcM (tr (4 * ins k)) (tr (4 * ins k + 1)) (tr (4 * ins k + 2)) (tr (4 * ins k + 3)) else pcZ := by rw [hG, e]; rfl
    have hn := hn e
    refine T50_isB H (by omega) (fun u => ?_) (fun u => no (by rw [g, if_neg u]))
    unfold wpX50_copy_triples
    exact ⟨by omega, by omega, by omega, by omega, yes (by rw [g, if_pos u])⟩
theorem T50_single {post : (Int → Int) → Prop} {G : Int → Int} (H : pcPm st pr ct S k) (hct : ct k = pcT (ru k)) (hr : 0 ≤ ru k ∧ ru k ≤ 17) (hn : (ru k = 0 ∨ ru k = 1 ∨ ru k = 17) → 1 ≤ ins k ∧ ins k ≤ 100)
    (hG : G = pcG (ru k) (ins k) ax tr (S (pr (3 * k + 0))) (S (pr (3 * k + 1))) (S (pr (3 * k + 2)))) (hz : ∀ j, 0 ≤ j → j < 4 → st (4 * k + j) = 0) (hp : ∀ st', pcL st st' k G → post st') : wpX50_single post ax tr ru ins ct pr st k := by
  have hk : 0 ≤ k ∧ k < 301 := by have := H.1; omega
  have yes : ∀ {a b c d}, G = pcM a b c d → wpX50_state (fun s => post s) st k a b c d := fun e => T50_state hk (fun st' L => hp _ (by rw [e]; exact L))
  unfold wpX50_single
  refine ⟨hk, fun m em z ez => ?_⟩
  subst em ez
  refine ⟨fun e => ?_, fun n0 => ⟨fun e => ?_, fun n1 => ⟨fun e => yes (by rw [hG, e]; rfl), fun n2 => ?_⟩⟩⟩
  · have := hn (Or.inl e)
    unfold wpX50_copy_axioms
    exact ⟨by omega, by omega, by omega, by omega, yes (by rw [hG, e]; rfl)⟩
  · have := hn (Or.inr (Or.inl e))
    unfold wpX50_copy_triples
    exact ⟨by omega, by omega, by omega, by omega, yes (by rw [hG, e]; rfl)⟩
  · have go : ∀ {arc x p y}, (2 ≤ ct k → ((¬ arc = 0 ↔ S (pr (3 * k + 1)) 0 = 11) ∧ x = S (pr (3 * k + 1)) 1 ∧ p = S (pr (3 * k + 1)) 2 ∧ y = S (pr (3 * k + 1)) 3)) → wX50_chain_93 (fun s => post s) k arc x p y tr ru ins pr st := fun h2 => T50_c93 H hct (by omega) h2 (fun e => hn (Or.inr (Or.inr e))) hG hz hp
    unfold wpX50_chain
    refine ⟨hk, fun c => ?_, fun c => ?_⟩
    · unfold wX50_chain_26 wX50_chain_48 wX50_chain_70
      exact ⟨hk, fun _ => ⟨hk, fun _ => ⟨hk, fun _ => go (fun w => by omega), fun w => absurd c w⟩, fun w => absurd c w⟩, fun w => absurd c w⟩
    · have tail : ∀ {arc}, (¬ arc = 0 ↔ S (pr (3 * k + 1)) 0 = 11) → wX50_chain_26 (fun s => post s) k arc tr ru ins ct pr st := by
        intro arc ha
        unfold wX50_chain_26 wX50_chain_48 wX50_chain_70
        exact ⟨hk, fun w => absurd w c, fun _ => T50_of H (by omega) (by decide) ⟨hk, fun w => absurd w c, fun _ => T50_of H (by omega) (by decide) ⟨hk, fun w => absurd w c, fun _ => T50_of H (by omega) (by decide) (go (fun _ => ⟨ha, rfl, rfl, rfl⟩))⟩⟩⟩
      exact T50_isB H (by omega) (fun e => tail ⟨fun _ => e, fun _ => by decide⟩) (fun e => tail ⟨fun w => absurd rfl w, fun w => absurd w e⟩)
end
