/-! DatatypeValues, the reference (X49): the tape and its numbers -/
def dvT (tp : Int → Int) : Prop := ∀ i, -128 ≤ tp i ∧ tp i < 128
def dvH (tp : Int → Int) (sz a : Int) : Int := if a < sz then tp a else -1
def dvD (tp : Int → Int) (sz a : Int) : Prop := 48 ≤ dvH tp sz a ∧ dvH tp sz a ≤ 57
/-- how many digits from a on, most at most -/
noncomputable def dvN (tp : Int → Int) (sz a : Int) (most : Nat) : Int := fstI (fun k => ¬ dvD tp sz (a + k)) most
def dvV (tp : Int → Int) (a : Int) : Nat → Int
  | 0 => 0
  | n + 1 => 10 * dvV tp a n + tp (a + n) - 48
/-- digits: fault, place, value -/
noncomputable def dvDg (tp : Int → Int) (sz least : Int) (most : Nat) (a : Int) : Int × Int × Int := (if dvN tp sz a most < least then a + dvN tp sz a most else -1, a + dvN tp sz a most, dvV tp a (dvN tp sz a most).toNat)
/-- two digits in a range -/
noncomputable def dvPr (tp : Int → Int) (sz lo hi a : Int) : Int × Int × Int := if 0 ≤ (dvDg tp sz 2 2 a).1 then dvDg tp sz 2 2 a else if lo ≤ (dvDg tp sz 2 2 a).2.2 ∧ (dvDg tp sz 2 2 a).2.2 ≤ hi then dvDg tp sz 2 2 a else (a, (dvDg tp sz 2 2 a).2)
/-- a sign that must stand there -/
def dvWt (tp : Int → Int) (sz b a : Int) : Int := if dvH tp sz a = b then -1 else a
section
variable {tp : Int → Int} {sz at_ F b x v lo hi least : Int} {most : Nat}
theorem dvH_b (hT : dvT tp) : -128 ≤ dvH tp sz at_ ∧ dvH tp sz at_ < 128 := by
  unfold dvH
  have := hT at_
  split <;> omega
theorem dvH_s (h : ¬ dvH tp sz at_ = -1) : at_ < sz := by
  unfold dvH at h
  split at h
  · assumption
  · exact absurd rfl h
theorem dvN_s : (0 ≤ dvN tp sz at_ most ∧ dvN tp sz at_ most ≤ most) ∧ (dvN tp sz at_ most < most → ¬ dvD tp sz (at_ + dvN tp sz at_ most)) ∧ ∀ j, 0 ≤ j → j < dvN tp sz at_ most → dvD tp sz (at_ + j) := by
  have S := fstI_s (fun k => ¬ dvD tp sz (at_ + k)) most
  exact ⟨S.1, S.2.1, fun j a b => Classical.not_not.mp (S.2.2 j a b)⟩
theorem dvD_v (h : dvD tp sz at_) : at_ < sz ∧ dvH tp sz at_ = tp at_ ∧ 48 ≤ tp at_ ∧ tp at_ ≤ 57 := by
  have l : at_ < sz := by
    refine dvH_s (tp := tp) ?_
    intro q
    unfold dvD at h
    omega
  have e : dvH tp sz at_ = tp at_ := by unfold dvH; exact if_pos l
  unfold dvD at h
  rw [e] at h
  exact ⟨l, e, h⟩
theorem dvV_b : ∀ (n : Nat), (∀ j : Int, 0 ≤ j → j < n → dvD tp sz (at_ + j)) → 0 ≤ dvV tp at_ n ∧ dvV tp at_ n < 10 ^ n
  | 0, _ => by show (0 : Int) ≤ 0 ∧ (0 : Int) < 10 ^ 0; decide
  | n + 1, h => by
    have ih := dvV_b n (fun j a b => h j a (by omega))
    have d := (dvD_v (h n (by omega) (by omega))).2.2
    have e : (10 : Int) ^ (n + 1) = 10 * 10 ^ n := by rw [Int.pow_succ]; omega
    unfold dvV
    rw [e]
    generalize (10 : Int) ^ n = P at ih
    omega
theorem dvN_z : dvN tp sz at_ most = 0 ∨ at_ + dvN tp sz at_ most ≤ sz := by
  have N := dvN_s (tp := tp) (sz := sz) (at_ := at_) (most := most)
  by_cases z : dvN tp sz at_ most = 0
  · exact Or.inl z
  · have := (dvD_v (N.2.2 (dvN tp sz at_ most - 1) (by omega) (by omega))).1
    exact Or.inr (by omega)
theorem dvDg_b (hm : most ≤ 9) : 0 ≤ (dvDg tp sz least most at_).2.2 ∧ (dvDg tp sz least most at_).2.2 < 1000000000 := by
  have N := dvN_s (tp := tp) (sz := sz) (at_ := at_) (most := most)
  have b := dvV_b (tp := tp) (sz := sz) (at_ := at_) (dvN tp sz at_ most).toNat (fun j a c => N.2.2 j a (by omega))
  have p : ∀ n : Nat, n ≤ 9 → (10 : Int) ^ n ≤ 1000000000 := by decide
  have := p (dvN tp sz at_ most).toNat (by omega)
  show 0 ≤ dvV tp at_ (dvN tp sz at_ most).toNat ∧ dvV tp at_ (dvN tp sz at_ most).toNat < 1000000000
  omega
theorem dvV_6 (h : most ≤ 6) : (dvDg tp sz least most at_).2.2 < 1000000 := by
  have N := dvN_s (tp := tp) (sz := sz) (at_ := at_) (most := most)
  have b := dvV_b (tp := tp) (sz := sz) (at_ := at_) (dvN tp sz at_ most).toNat (fun j a c => N.2.2 j a (by omega))
  have p : ∀ n : Nat, n ≤ 6 → (10 : Int) ^ n ≤ 1000000 := by decide
  have := p (dvN tp sz at_ most).toNat (by omega)
  show dvV tp at_ (dvN tp sz at_ most).toNat < 1000000
  omega
theorem dvV_4 (h : most ≤ 4) : (dvDg tp sz least most at_).2.2 < 10000 := by
  have N := dvN_s (tp := tp) (sz := sz) (at_ := at_) (most := most)
  have b := dvV_b (tp := tp) (sz := sz) (at_ := at_) (dvN tp sz at_ most).toNat (fun j a c => N.2.2 j a (by omega))
  have p : ∀ n : Nat, n ≤ 4 → (10 : Int) ^ n ≤ 10000 := by decide
  have := p (dvN tp sz at_ most).toNat (by omega)
  show dvV tp at_ (dvN tp sz at_ most).toNat < 10000
  omega
theorem dvV_3 (h : most ≤ 3) : (dvDg tp sz least most at_).2.2 < 1000 := by
  have N := dvN_s (tp := tp) (sz := sz) (at_ := at_) (most := most)
  have b := dvV_b (tp := tp) (sz := sz) (at_ := at_) (dvN tp sz at_ most).toNat (fun j a c => N.2.2 j a (by omega))
  have p : ∀ n : Nat, n ≤ 3 → (10 : Int) ^ n ≤ 1000 := by decide
  have := p (dvN tp sz at_ most).toNat (by omega)
  show dvV tp at_ (dvN tp sz at_ most).toNat < 1000
  omega
theorem dvV_2 (h : most ≤ 2) : (dvDg tp sz least most at_).2.2 < 100 := by
  have N := dvN_s (tp := tp) (sz := sz) (at_ := at_) (most := most)
  have b := dvV_b (tp := tp) (sz := sz) (at_ := at_) (dvN tp sz at_ most).toNat (fun j a c => N.2.2 j a (by omega))
  have p : ∀ n : Nat, n ≤ 2 → (10 : Int) ^ n ≤ 100 := by decide
  have := p (dvN tp sz at_ most).toNat (by omega)
  show dvV tp at_ (dvN tp sz at_ most).toNat < 100
  omega
/-- where reading may stand -/
def dvA (sz a : Int) : Prop := 0 ≤ a ∧ a ≤ 70 ∧ sz ≤ 64
theorem dvDg_a (h : dvA sz at_) : dvA sz (dvDg tp sz least most at_).2.1 ∧ at_ ≤ (dvDg tp sz least most at_).2.1 ∧ (dvDg tp sz least most at_).2.1 ≤ at_ + most := by
  have N := dvN_s (tp := tp) (sz := sz) (at_ := at_) (most := most)
  have z := dvN_z (tp := tp) (sz := sz) (at_ := at_) (most := most)
  show dvA sz (at_ + dvN tp sz at_ most) ∧ at_ ≤ at_ + dvN tp sz at_ most ∧ at_ + dvN tp sz at_ most ≤ at_ + most
  unfold dvA at h ⊢
  omega
theorem T49_here {post : Int → Prop} (h : dvA sz at_) (hp : post (dvH tp sz at_)) : wpX49_here post tp sz at_ := by
  unfold wpX49_here
  unfold dvH at hp
  unfold dvA at h
  refine ⟨fun z => ?_, fun z => ⟨by omega, ?_⟩⟩
  · rw [if_neg (by omega)] at hp; exact hp
  · rw [if_pos (by omega)] at hp; exact hp
theorem T49_isDigitB {X Y : Prop} (h : dvA sz at_) (h1 : dvD tp sz at_ → Y) (h0 : ¬ dvD tp sz at_ → X) : wpX49_isDigit (fun r => (r = 0 → X) ∧ (¬ r = 0 → Y)) tp sz at_ := by
  unfold wpX49_isDigit
  unfold dvD at h1 h0
  refine T49_here h ⟨fun z => ⟨fun _ => h0 (by omega), fun q => absurd rfl q⟩, fun z => T49_here h ⟨fun z2 => ⟨fun _ => h0 (by omega), fun q => absurd rfl q⟩, fun z2 => ⟨fun q => absurd q (by decide), fun _ => h1 (by omega)⟩⟩⟩
theorem T49_takes {post : Int → Int → Prop} (h : dvA sz at_) (hb : 0 ≤ F → post 0 at_) (h1 : F < 0 → dvH tp sz at_ = b → post 1 (at_ + 1)) (h0 : F < 0 → ¬ dvH tp sz at_ = b → post 0 at_) : wpX49_takes post tp sz at_ F b := by
  have h2 := h
  unfold dvA at h2
  have z0 : post 0 at_ → wX49_takes_20 post 0 at_ := fun q => by
    unfold wX49_takes_20
    refine ⟨fun _ => ⟨by omega, fun a ea => ⟨Or.inl rfl, by rw [ea, show at_ + 0 = at_ by omega]; exact q⟩⟩, fun w => absurd rfl w⟩
  unfold wpX49_takes
  refine ⟨fun z => z0 (hb z), fun z => T49_here h ⟨fun e => ?_, fun e => z0 (h0 (by omega) e)⟩⟩
  unfold wX49_takes_20
  exact ⟨fun w => absurd w (by decide), fun _ => ⟨by omega, fun a ea => ⟨Or.inr rfl, by rw [ea]; exact h1 (by omega) e⟩⟩⟩
theorem T49_want {post : Int → Int → Prop} (h : dvA sz at_) (hb : 0 ≤ F → post at_ F) (h1 : F < 0 → dvH tp sz at_ = b → post (at_ + 1) F) (h0 : F < 0 → ¬ dvH tp sz at_ = b → post at_ at_) : wpX49_want post tp sz at_ F b := by
  have h2 := h
  unfold dvA at h2
  unfold wpX49_want wpX49_need
  refine T49_here h ⟨fun e => ⟨fun z => T49_takes h (fun _ => hb z) (fun q => by omega) (fun q => by omega), fun z => ⟨fun q => absurd q (by decide), fun _ => T49_takes h (fun q => by omega) (fun q _ => h1 q e) (fun _ q => absurd e q)⟩⟩, fun e => ⟨fun z => T49_takes h (fun _ => hb z) (fun q => by omega) (fun q => by omega), fun z => ⟨fun _ => T49_takes h (fun q => h0 (by omega) e) (fun q => by omega) (fun q => by omega), fun q => absurd rfl q⟩⟩⟩
theorem T49_goesOnB {X Y : Prop} (h1 : F < 0 → Y) (h0 : 0 ≤ F → X) : wpX49_goesOn (fun r => (r = 0 → X) ∧ (¬ r = 0 → Y)) F := by
  unfold wpX49_goesOn
  exact ⟨fun z => ⟨fun _ => h0 z, fun q => absurd rfl q⟩, fun z => ⟨fun q => absurd q (by decide), fun _ => h1 (by omega)⟩⟩
theorem T49_digits {post : Int → Int → Int → Prop} (h : dvA sz at_) (hl : least ≤ most) (hm : most ≤ 9) (hF : F = -1 ∨ 0 ≤ F) (hb : 0 ≤ F → post 0 at_ F) (h1 : F < 0 → (dvDg tp sz least most at_).1 = -1 → post (dvDg tp sz least most at_).2.2 (dvDg tp sz least most at_).2.1 (-1)) (h0 : F < 0 → 0 ≤ (dvDg tp sz least most at_).1 → post (dvDg tp sz least most at_).2.2 (dvDg tp sz least most at_).2.1 (dvDg tp sz least most at_).1) : wpX49_digits post tp sz at_ F least most := by
  have h2 := h
  unfold dvA at h2
  have N := dvN_s (tp := tp) (sz := sz) (at_ := at_) (most := most)
  unfold wpX49_digits
  by_cases bad : 0 ≤ F
  · refine ⟨1, ?_⟩
    rw [wX49_digits_5]
    refine ⟨fun _ => ?_, fun q => absurd bad q⟩
    unfold wX49_digits_57 wpX49_need
    exact ⟨fun _ => ⟨fun _ => hb bad, fun q => absurd bad q⟩, fun _ => ⟨fun _ => hb bad, fun q => absurd bad q⟩⟩
  have eF : F = -1 := by omega
  -- the end
  have fin : ∀ k : Int, k = dvN tp sz at_ most → wX49_digits_57 post least (dvV tp at_ k.toNat) k (at_ + k) F := fun k ek => by
    have n0 : 0 ≤ k := by omega
    unfold wX49_digits_57 wpX49_need
    rw [ek]
    unfold dvDg at h1 h0
    dsimp only at h1 h0
    refine ⟨fun z => ⟨fun q => by omega, fun _ => ⟨fun _ => ?_, fun q => absurd rfl q⟩⟩, fun z => ⟨fun q => by omega, fun _ => ⟨fun q => absurd q (by decide), fun _ => ?_⟩⟩⟩
    · rw [if_pos z] at h0; exact h0 (by omega) (by omega)
    · rw [if_neg z] at h1; rw [eF]; exact h1 (by omega) rfl
  refine wl3 (fun d x3 x5 a => wX49_digits_5 _ most tp sz F d x3 x5 a) (fun x3 x5 a => (0 ≤ x5 ∧ x5 ≤ dvN tp sz at_ most) ∧ x3 = dvV tp at_ x5.toNat ∧ a = at_ + x5) (fun _ x5 _ => (dvN tp sz at_ most - x5).toNat) ?_ 0 0 at_ ⟨by omega, rfl, by omega⟩
  rintro x3 x5 a ⟨hx, e3, ea⟩ d ih
  rw [wX49_digits_5, e3, ea]
  have hA : dvA sz (at_ + x5) := by
    have := dvN_z (tp := tp) (sz := sz) (at_ := at_) (most := most)
    unfold dvA; omega
  refine ⟨fun q => absurd q bad, fun _ => ⟨fun q => fin x5 (by omega), fun q => T49_isDigitB hA (fun D => T49_here hA ?_) (fun D => fin x5 ?_)⟩⟩
  · have dv := dvD_v D
    have vb := dvV_b (tp := tp) (sz := sz) (at_ := at_) x5.toNat (fun j u w => N.2.2 j u (by omega))
    have p : ∀ n : Nat, n ≤ 9 → (10 : Int) ^ n ≤ 1000000000 := by decide
    have pb := p x5.toNat (by omega)
    have lt : x5 < dvN tp sz at_ most := by
      have : ¬ dvN tp sz at_ most = x5 := fun w => N.2.1 (by omega) (by rw [w]; exact D)
      omega
    rw [dv.2.1]
    refine ⟨by omega, fun v ev => ⟨by omega, fun a2 ea2 => ⟨by omega, fun k2 ek2 => ?_⟩⟩⟩
    subst ev ea2 ek2
    refine ih _ _ _ ⟨by omega, ?_, by omega⟩ (by omega)
    rw [show (x5 + 1).toNat = x5.toNat + 1 by omega, dvV, show ((x5.toNat : Nat) : Int) = x5 by omega]
  · refine Classical.byContradiction (fun w => D (N.2.2 x5 hx.1 (by omega)))
/-- a pair in a range -/
theorem dvDg_f (h0 : 0 ≤ at_) : (dvDg tp sz least most at_).1 = -1 ∨ 0 ≤ (dvDg tp sz least most at_).1 := by
  have N := dvN_s (tp := tp) (sz := sz) (at_ := at_) (most := most)
  show (if dvN tp sz at_ most < least then at_ + dvN tp sz at_ most else -1) = -1 ∨ 0 ≤ (if dvN tp sz at_ most < least then at_ + dvN tp sz at_ most else -1)
  split
  · exact Or.inr (by omega)
  · exact Or.inl rfl
theorem dvPr_c (a0 : 0 ≤ at_) : (dvPr tp sz lo hi at_).2 = (dvDg tp sz 2 2 at_).2 ∧ ((dvPr tp sz lo hi at_).1 = -1 ↔ (dvDg tp sz 2 2 at_).1 = -1 ∧ lo ≤ (dvDg tp sz 2 2 at_).2.2 ∧ (dvDg tp sz 2 2 at_).2.2 ≤ hi) ∧ ((dvPr tp sz lo hi at_).1 = -1 ∨ 0 ≤ (dvPr tp sz lo hi at_).1) := by
  have f1 := dvDg_f (tp := tp) (sz := sz) (least := 2) (most := 2) a0
  unfold dvPr
  by_cases z : 0 ≤ (dvDg tp sz 2 2 at_).1
  · rw [if_pos z]; exact ⟨rfl, ⟨fun q => by omega, fun q => by omega⟩, Or.inr z⟩
  · rw [if_neg z]
    by_cases w : lo ≤ (dvDg tp sz 2 2 at_).2.2 ∧ (dvDg tp sz 2 2 at_).2.2 ≤ hi
    · rw [if_pos w]
      exact ⟨rfl, ⟨fun q => ⟨q, w⟩, fun q => q.1⟩, Or.inl (by omega)⟩
    · rw [if_neg w]
      refine ⟨rfl, ⟨fun q => ?_, fun q => absurd q.2 w⟩, Or.inr a0⟩
      have q2 : at_ = -1 := q
      omega
theorem T49_pair {post : Int → Int → Int → Prop} (h : dvA sz at_) (hF : F = -1 ∨ 0 ≤ F) (hb : 0 ≤ F → post 0 at_ F) (h1 : F < 0 → (dvPr tp sz lo hi at_).1 = -1 → post (dvPr tp sz lo hi at_).2.2 (dvPr tp sz lo hi at_).2.1 (-1)) (h0 : F < 0 → 0 ≤ (dvPr tp sz lo hi at_).1 → post (dvPr tp sz lo hi at_).2.2 (dvPr tp sz lo hi at_).2.1 (dvPr tp sz lo hi at_).1) : wpX49_pair post tp sz at_ F lo hi := by
  have h2 := h
  unfold dvA at h2
  have C := dvPr_c (tp := tp) (sz := sz) (lo := lo) (hi := hi) (at_ := at_) h2.1
  have B := dvV_2 (tp := tp) (sz := sz) (least := 2) (most := 2) (at_ := at_) (Nat.le_refl 2)
  have B0 := dvDg_b (tp := tp) (sz := sz) (least := 2) (most := 2) (at_ := at_) (by decide)
  unfold wpX49_pair wpX49_need
  refine T49_digits (least := 2) (most := 2) h (Int.le_refl 2) (by decide) hF (fun z => ⟨by omega, fun v ev => ⟨fun _ => ⟨fun _ => by rw [ev]; exact hb z, fun q => absurd z q⟩, fun _ => ⟨fun _ => ⟨fun _ => by rw [ev]; exact hb z, fun q => absurd z q⟩, fun _ => ⟨fun _ => by rw [ev]; exact hb z, fun q => absurd z q⟩⟩⟩⟩) (fun z e1 => ⟨by omega, fun v ev => ?_⟩) (fun z e1 => ⟨by omega, fun v ev => ?_⟩)
  · subst ev
    rw [C.1] at h1 h0
    have bad : ¬ (lo ≤ (dvDg tp sz 2 2 at_).2.2 ∧ (dvDg tp sz 2 2 at_).2.2 ≤ hi) → post (dvDg tp sz 2 2 at_).2.2 (dvDg tp sz 2 2 at_).2.1 at_ := fun w => by
      have e : (dvPr tp sz lo hi at_).1 = at_ := by unfold dvPr; rw [if_neg (by omega), if_neg w]
      have := h0 z (by omega)
      rw [e] at this; exact this
    refine ⟨fun l => ⟨fun q => absurd q (by decide), fun _ => ⟨fun _ => bad (by omega), fun q => absurd rfl q⟩⟩, fun l => ⟨fun g => ⟨fun q => absurd q (by decide), fun _ => ⟨fun _ => bad (by omega), fun q => absurd rfl q⟩⟩, fun g => ⟨fun q => absurd q (by decide), fun _ => ⟨fun q => absurd q (by decide), fun _ => ?_⟩⟩⟩⟩
    exact h1 z (C.2.1.mpr ⟨e1, by omega⟩)
  · subst ev
    rw [C.1] at h0
    have e : (dvPr tp sz lo hi at_).1 = (dvDg tp sz 2 2 at_).1 := by unfold dvPr; rw [if_pos e1]
    have H := h0 z (by omega)
    rw [e] at H
    exact ⟨fun _ => ⟨fun _ => H, fun q => absurd e1 q⟩, fun _ => ⟨fun _ => ⟨fun _ => H, fun q => absurd e1 q⟩, fun _ => ⟨fun _ => H, fun q => absurd e1 q⟩⟩⟩
end

/-! DatatypeValues: days (plain) -/
def dvLp (y : Int) : Prop := y % 4 = 0 ∧ (¬ y % 100 = 0 ∨ y % 400 = 0)
noncomputable def dvLn (y m : Int) : Int := if m = 2 then pif (dvLp y) 29 28 else if m = 4 ∨ m = 6 ∨ m = 9 ∨ m = 11 then 30 else 31
/-- days before a year of 400, of a year; before a month -/
def dvYd (r : Int) : Int := 365 * r + (r + 3) / 4 - (r + 99) / 100 + (if 0 < r then 1 else 0)
def dvYs (y : Int) : Int := 146097 * (y / 400) + dvYd (y % 400)
noncomputable def dvYl (y : Int) : Int := pif (dvLp y) 366 365
noncomputable def dvMd (y : Int) : Nat → Int
  | 0 => 0
  | n + 1 => dvMd y n + dvLn y (n + 1)
/-- a day's number, by years that begin in March -/
def dvOf (y m d : Int) : Int := 365 * (if m < 3 then y - 1 else y) + (if m < 3 then y - 1 else y) / 4 - (if m < 3 then y - 1 else y) / 100 + (if m < 3 then y - 1 else y) / 400 + (153 * (if m < 3 then m + 9 else m - 3) + 2) / 5 + d - 719469
section
variable {x b y m d : Int}
theorem dv_td (hb : 0 < b) : (0 ≤ Int.tmod x b → Int.tdiv x b = x / b) ∧ (¬ 0 ≤ Int.tmod x b → Int.tdiv x b - 1 = x / b) := by
  have e1 := Int.tdiv_eq_ediv (a := x) (b := b)
  have e2 := Int.tmod_eq_emod (a := x) (b := b)
  have l := Int.emod_lt_of_pos x hb
  have l0 := Int.emod_nonneg x (show b ≠ 0 by omega)
  have sg : Int.sign b = 1 := Int.sign_eq_one_of_pos hb
  by_cases c : 0 ≤ x ∨ b ∣ x
  · rw [if_pos c] at e1 e2
    exact ⟨fun _ => by omega, fun q => by omega⟩
  · rw [if_neg c] at e1 e2
    rw [sg] at e1
    exact ⟨fun q => by omega, fun _ => by omega⟩
theorem dvYl_c : dvYl y = 365 + dvLn y 2 - 28 := by
  unfold dvYl dvLn
  rw [if_pos rfl]
  by_cases w : dvLp y
  · rw [pif_t w, pif_t w]; decide
  · rw [pif_f w, pif_f w]; decide
theorem dvYs_n : dvYs (y + 1) = dvYs y + dvYl y := by
  unfold dvYs dvYd dvYl
  by_cases w : dvLp y
  · rw [pif_t w]
    unfold dvLp at w
    split <;> split <;> omega
  · rw [pif_f w]
    unfold dvLp at w
    split <;> split <;> omega
theorem dvMd_v : dvMd y 0 = 0 ∧ dvMd y 1 = 31 ∧ dvMd y 2 = 31 + dvLn y 2 ∧ dvMd y 3 = 62 + dvLn y 2 ∧ dvMd y 4 = 92 + dvLn y 2 ∧ dvMd y 5 = 123 + dvLn y 2 ∧ dvMd y 6 = 153 + dvLn y 2 ∧ dvMd y 7 = 184 + dvLn y 2 ∧ dvMd y 8 = 215 + dvLn y 2 ∧ dvMd y 9 = 245 + dvLn y 2 ∧ dvMd y 10 = 276 + dvLn y 2 ∧ dvMd y 11 = 306 + dvLn y 2 ∧ dvMd y 12 = 337 + dvLn y 2 := by
  have l1 : dvLn y 1 = 31 := by unfold dvLn; rw [if_neg (by decide), if_neg (by decide)]
  have l3 : dvLn y 3 = 31 := by unfold dvLn; rw [if_neg (by decide), if_neg (by decide)]
  have l4 : dvLn y 4 = 30 := by unfold dvLn; rw [if_neg (by decide), if_pos (by decide)]
  have l5 : dvLn y 5 = 31 := by unfold dvLn; rw [if_neg (by decide), if_neg (by decide)]
  have l6 : dvLn y 6 = 30 := by unfold dvLn; rw [if_neg (by decide), if_pos (by decide)]
  have l7 : dvLn y 7 = 31 := by unfold dvLn; rw [if_neg (by decide), if_neg (by decide)]
  have l8 : dvLn y 8 = 31 := by unfold dvLn; rw [if_neg (by decide), if_neg (by decide)]
  have l9 : dvLn y 9 = 30 := by unfold dvLn; rw [if_neg (by decide), if_pos (by decide)]
  have l10 : dvLn y 10 = 31 := by unfold dvLn; rw [if_neg (by decide), if_neg (by decide)]
  have l11 : dvLn y 11 = 30 := by unfold dvLn; rw [if_neg (by decide), if_pos (by decide)]
  have l12 : dvLn y 12 = 31 := by unfold dvLn; rw [if_neg (by decide), if_neg (by decide)]
  have v0 : dvMd y 0 = 0 := rfl
  have v1 : dvMd y 1 = dvMd y 0 + dvLn y (((0 : Nat) : Int) + 1) := rfl
  rw [show (((0 : Nat) : Int) + 1) = 1 by decide, v0, l1] at v1
  have v2 : dvMd y 2 = dvMd y 1 + dvLn y (((1 : Nat) : Int) + 1) := rfl
  rw [show (((1 : Nat) : Int) + 1) = 2 by decide, v1] at v2
  have v3 : dvMd y 3 = dvMd y 2 + dvLn y (((2 : Nat) : Int) + 1) := rfl
  rw [show (((2 : Nat) : Int) + 1) = 3 by decide, v2, l3] at v3
  have v4 : dvMd y 4 = dvMd y 3 + dvLn y (((3 : Nat) : Int) + 1) := rfl
  rw [show (((3 : Nat) : Int) + 1) = 4 by decide, v3, l4] at v4
  have v5 : dvMd y 5 = dvMd y 4 + dvLn y (((4 : Nat) : Int) + 1) := rfl
  rw [show (((4 : Nat) : Int) + 1) = 5 by decide, v4, l5] at v5
  have v6 : dvMd y 6 = dvMd y 5 + dvLn y (((5 : Nat) : Int) + 1) := rfl
  rw [show (((5 : Nat) : Int) + 1) = 6 by decide, v5, l6] at v6
  have v7 : dvMd y 7 = dvMd y 6 + dvLn y (((6 : Nat) : Int) + 1) := rfl
  rw [show (((6 : Nat) : Int) + 1) = 7 by decide, v6, l7] at v7
  have v8 : dvMd y 8 = dvMd y 7 + dvLn y (((7 : Nat) : Int) + 1) := rfl
  rw [show (((7 : Nat) : Int) + 1) = 8 by decide, v7, l8] at v8
  have v9 : dvMd y 9 = dvMd y 8 + dvLn y (((8 : Nat) : Int) + 1) := rfl
  rw [show (((8 : Nat) : Int) + 1) = 9 by decide, v8, l9] at v9
  have v10 : dvMd y 10 = dvMd y 9 + dvLn y (((9 : Nat) : Int) + 1) := rfl
  rw [show (((9 : Nat) : Int) + 1) = 10 by decide, v9, l10] at v10
  have v11 : dvMd y 11 = dvMd y 10 + dvLn y (((10 : Nat) : Int) + 1) := rfl
  rw [show (((10 : Nat) : Int) + 1) = 11 by decide, v10, l11] at v11
  have v12 : dvMd y 12 = dvMd y 11 + dvLn y (((11 : Nat) : Int) + 1) := rfl
  rw [show (((11 : Nat) : Int) + 1) = 12 by decide, v11, l12] at v12
  refine ⟨v0, ?_, ?_, ?_, ?_, ?_, ?_, ?_, ?_, ?_, ?_, ?_, ?_⟩ <;> omega
theorem dvLn_2 : dvLn y 2 = 28 ∨ dvLn y 2 = 29 := by
  unfold dvLn
  rw [if_pos rfl]
  by_cases w : dvLp y
  · rw [pif_t w]; exact Or.inr rfl
  · rw [pif_f w]; exact Or.inl rfl
theorem dvLn_b : 28 ≤ dvLn y m ∧ dvLn y m ≤ 31 := by
  have := dvLn_2 (y := y)
  unfold dvLn at this ⊢
  by_cases w : m = 2
  · rw [if_pos w]; rw [if_pos rfl] at this; omega
  · rw [if_neg w]; split <;> decide
/-- a year by its parts -/
theorem dv4 (y : Int) : ∃ q c a r : Int, (0 ≤ c ∧ c ≤ 3) ∧ (0 ≤ a ∧ a ≤ 24) ∧ (0 ≤ r ∧ r ≤ 3) ∧ y = 400 * q + 100 * c + 4 * a + r ∧ y / 4 = 100 * q + 25 * c + a ∧ y / 100 = 4 * q + c ∧ y / 400 = q ∧ y % 4 = r ∧ y % 100 = 4 * a + r ∧ y % 400 = 100 * c + 4 * a + r := by
  obtain ⟨q, eq⟩ : ∃ q, q = y / 400 := ⟨_, rfl⟩
  obtain ⟨s, es⟩ : ∃ s, s = y % 400 := ⟨_, rfl⟩
  obtain ⟨c, ec⟩ : ∃ c, c = s / 100 := ⟨_, rfl⟩
  obtain ⟨u, eu⟩ : ∃ u, u = s % 100 := ⟨_, rfl⟩
  obtain ⟨a, ea⟩ : ∃ a, a = u / 4 := ⟨_, rfl⟩
  obtain ⟨r, er⟩ : ∃ r, r = u % 4 := ⟨_, rfl⟩
  have h1 : y = 400 * q + s := by omega
  have h2 : s = 100 * c + u := by omega
  have h3 : u = 4 * a + r := by omega
  have b1 : 0 ≤ c ∧ c ≤ 3 := by omega
  have b2 : 0 ≤ a ∧ a ≤ 24 := by omega
  have b3 : 0 ≤ r ∧ r ≤ 3 := by omega
  clear eq es ec eu ea er
  subst h3 h2 h1
  exact ⟨q, c, a, r, b1, b2, b3, by omega, by omega, by omega, by omega, by omega, by omega, by omega⟩
theorem dvYs_v : dvYs y = 365 * y + y / 4 - y / 100 + y / 400 + 1 - (dvLn y 2 - 28) := by
  obtain ⟨q, c, a, r, b1, b2, b3, e0, e1, e2, e3, e4, e5, e6⟩ := dv4 y
  have L : dvLn y 2 = pif (dvLp y) 29 28 := by unfold dvLn; exact if_pos rfl
  rw [L]
  unfold dvYs dvYd
  rw [e1, e2, e3, e6]
  by_cases w : dvLp y
  · rw [pif_t w]
    unfold dvLp at w
    rw [e4, e5, e6] at w
    split <;> omega
  · rw [pif_f w]
    unfold dvLp at w
    rw [e4, e5, e6] at w
    split <;> omega
/-- both ways of counting days agree -/
theorem dvOf_e (h : 1 ≤ m ∧ m ≤ 12) : dvYs y + dvMd y (m.toNat - 1) + d - 1 - 719528 = dvOf y m d := by
  obtain ⟨v0, v1, v2, v3, v4, v5, v6, v7, v8, v9, va, vb, _⟩ := dvMd_v (y := y)
  have L : dvLn y 2 = pif (dvLp y) 29 28 := by unfold dvLn; exact if_pos rfl
  have Y := fun y => dvYs_v (y := y)
  have Z : dvYs y = 365 * (y - 1) + (y - 1) / 4 - (y - 1) / 100 + (y - 1) / 400 + 366 := by
    have n := dvYs_n (y := y - 1)
    rw [show y - 1 + 1 = y by omega, Y (y - 1), dvYl_c] at n
    omega
  have Y := Y y
  unfold dvOf
  have c : m = 1 ∨ m = 2 ∨ m = 3 ∨ m = 4 ∨ m = 5 ∨ m = 6 ∨ m = 7 ∨ m = 8 ∨ m = 9 ∨ m = 10 ∨ m = 11 ∨ m = 12 := by omega
  rcases c with c | c | c | c | c | c | c | c | c | c | c | c
  · subst c; rw [if_pos (by decide), if_pos (by decide), show (1 : Int).toNat - 1 = 0 from rfl, v0, Z]; omega
  · subst c; rw [if_pos (by decide), if_pos (by decide), show (2 : Int).toNat - 1 = 1 from rfl, v1, Z]; omega
  · subst c; rw [if_neg (by decide), if_neg (by decide), show (3 : Int).toNat - 1 = 2 from rfl, v2, Y]; omega
  · subst c; rw [if_neg (by decide), if_neg (by decide), show (4 : Int).toNat - 1 = 3 from rfl, v3, Y]; omega
  · subst c; rw [if_neg (by decide), if_neg (by decide), show (5 : Int).toNat - 1 = 4 from rfl, v4, Y]; omega
  · subst c; rw [if_neg (by decide), if_neg (by decide), show (6 : Int).toNat - 1 = 5 from rfl, v5, Y]; omega
  · subst c; rw [if_neg (by decide), if_neg (by decide), show (7 : Int).toNat - 1 = 6 from rfl, v6, Y]; omega
  · subst c; rw [if_neg (by decide), if_neg (by decide), show (8 : Int).toNat - 1 = 7 from rfl, v7, Y]; omega
  · subst c; rw [if_neg (by decide), if_neg (by decide), show (9 : Int).toNat - 1 = 8 from rfl, v8, Y]; omega
  · subst c; rw [if_neg (by decide), if_neg (by decide), show (10 : Int).toNat - 1 = 9 from rfl, v9, Y]; omega
  · subst c; rw [if_neg (by decide), if_neg (by decide), show (11 : Int).toNat - 1 = 10 from rfl, va, Y]; omega
  · subst c; rw [if_neg (by decide), if_neg (by decide), show (12 : Int).toNat - 1 = 11 from rfl, vb, Y]; omega
/-- a day as a date, by the formula -/
def dvQy (o : Int) : Int := (o - o / 1460 + o / 36524 - o / 146096) / 365
def dvQd (o : Int) : Int := o - (365 * dvQy o + dvQy o / 4 - dvQy o / 100)
def dvQm (o : Int) : Int := (5 * dvQd o + 2) / 153
def dvYy (n : Int) : Int := 400 * ((n + 719468) / 146097) + dvQy ((n + 719468) % 146097) + (if 9 < dvQm ((n + 719468) % 146097) then 1 else 0)
def dvMm (n : Int) : Int := if 9 < dvQm ((n + 719468) % 146097) then dvQm ((n + 719468) % 146097) - 9 else dvQm ((n + 719468) % 146097) + 3
def dvDd (n : Int) : Int := dvQd ((n + 719468) % 146097) - (153 * dvQm ((n + 719468) % 146097) + 2) / 5 + 1
/-- a whole date -/
def dvOk (y m d : Int) : Prop := (1 ≤ m ∧ m ≤ 12) ∧ 1 ≤ d ∧ d ≤ dvLn y m
theorem dvQ_h {o c b f : Int} (hc : 0 ≤ c ∧ c ≤ 3) (ho : 36524 * c ≤ o ∧ o < 36524 * c + 36524) (hf : 1460 * f ≤ o ∧ o < 1460 * f + 1460) (hb : 365 * b ≤ o - f + c ∧ o - f + c < 365 * b + 365) : (100 * c ≤ b ∧ b ≤ 100 * c + 99) ∧ b / 4 ≤ f ∧ (b ≤ 100 * c + 98 → f ≤ (b + 1) / 4) := by
  have c4 : c = 0 ∨ c = 1 ∨ c = 2 ∨ c = 3 := by omega
  have b1 : b ≤ 100 * c + 99 := by rcases c4 with q | q | q | q <;> subst q <;> omega
  have b0 : 100 * c ≤ b := by
    by_cases w : f ≤ 25 * c
    · rcases c4 with q | q | q | q <;> subst q <;> omega
    · rcases c4 with q | q | q | q <;> subst q <;> omega
  have f0 : b ≤ 4 * f + 3 := by rcases c4 with q | q | q | q <;> subst q <;> omega
  have f1 : 4 * f ≤ b + 1 := by rcases c4 with q | q | q | q <;> subst q <;> omega
  exact ⟨⟨b0, b1⟩, by omega, fun _ => by omega⟩
/-- the year of March -/
theorem dvQy_s {o : Int} (h : 0 ≤ o ∧ o < 146097) : (0 ≤ dvQy o ∧ dvQy o ≤ 399) ∧ 365 * dvQy o + dvQy o / 4 - dvQy o / 100 ≤ o ∧ o < 365 * (dvQy o + 1) + (dvQy o + 1) / 4 - (dvQy o + 1) / 100 + (dvQy o + 1) / 400 := by
  by_cases top : o = 146096
  · subst top; decide
  have c4 : o / 36524 = 0 ∨ o / 36524 = 1 ∨ o / 36524 = 2 ∨ o / 36524 = 3 := by omega
  have e0 : o / 146096 = 0 := by omega
  have K := dvQ_h (o := o) (c := o / 36524) (b := dvQy o) (f := o / 1460) (by omega) (by omega) (by omega) (by unfold dvQy; rw [e0]; omega)
  have D : 365 * dvQy o ≤ o - o / 1460 + o / 36524 ∧ o - o / 1460 + o / 36524 < 365 * dvQy o + 365 := by unfold dvQy; rw [e0]; omega
  generalize dvQy o = b at K D ⊢
  generalize o / 1460 = f at K D
  have ho : 36524 * (o / 36524) ≤ o ∧ o < 36524 * (o / 36524) + 36524 := by omega
  generalize o / 36524 = c at K D c4 ho
  obtain ⟨K1, K2, K3⟩ := K
  have e1 : b / 100 = c := by omega
  refine ⟨by omega, by omega, ?_⟩
  by_cases l : b ≤ 100 * c + 98
  · have K3 := K3 l
    have e2 : (b + 1) / 100 = c := by omega
    have e3 : (b + 1) / 400 = 0 := by omega
    rw [e2, e3]; omega
  · have e4 : b = 100 * c + 99 := by omega
    subst e4
    rcases c4 with q | q | q | q <;> subst q <;> omega
theorem dvQd_b {o : Int} (h : 0 ≤ o ∧ o < 146097) : 0 ≤ dvQd o ∧ dvQd o ≤ 365 ∧ (dvQd o = 365 → (dvQy o + 1) % 4 = 0 ∧ (¬ (dvQy o + 1) % 100 = 0 ∨ (dvQy o + 1) % 400 = 0)) := by
  have K := dvQy_s h
  unfold dvQd
  generalize dvQy o = b at K ⊢
  refine ⟨by omega, by omega, fun e => ?_⟩
  by_cases w : (b + 1) % 4 = 0
  · refine ⟨w, ?_⟩
    by_cases w2 : (b + 1) % 100 = 0
    · by_cases w3 : (b + 1) % 400 = 0
      · exact Or.inr w3
      · obtain ⟨j, ej⟩ : ∃ j, b = 100 * j - 1 := ⟨(b + 1) / 100, by omega⟩
        subst ej
        omega
    · exact Or.inl w2
  · have q1 : (b + 1) / 4 = b / 4 := by omega
    have q2 : (b + 1) / 100 = b / 100 := by
      by_cases w2 : (b + 1) % 100 = 0
      · omega
      · omega
    have n399 : b ≠ 399 := fun q => w (by rw [q]; decide)
    have q3 : (b + 1) / 400 = 0 := by omega
    rw [q1, q2, q3] at K
    omega
/-- the formula gives a date of that day -/
theorem dvF_ok (n : Int) : dvOk (dvYy n) (dvMm n) (dvDd n) ∧ dvOf (dvYy n) (dvMm n) (dvDd n) = n := by
  have ho : 0 ≤ (n + 719468) % 146097 ∧ (n + 719468) % 146097 < 146097 := by omega
  have eo : n + 719468 = 146097 * ((n + 719468) / 146097) + (n + 719468) % 146097 := by omega
  have D := dvQd_b ho
  have Y := (dvQy_s ho).1
  have dd : dvQd ((n + 719468) % 146097) = (n + 719468) % 146097 - (365 * dvQy ((n + 719468) % 146097) + dvQy ((n + 719468) % 146097) / 4 - dvQy ((n + 719468) % 146097) / 100) := rfl
  unfold dvYy dvMm dvDd
  have mm : dvQm ((n + 719468) % 146097) = (5 * dvQd ((n + 719468) % 146097) + 2) / 153 := rfl
  generalize (n + 719468) / 146097 = e at eo ⊢
  generalize (n + 719468) % 146097 = o at D Y dd mm ho eo ⊢
  generalize dvQm o = m at mm ⊢
  generalize dvQd o = k at D dd mm ⊢
  generalize dvQy o = b at D Y dd ⊢
  have m12 : m = 0 ∨ m = 1 ∨ m = 2 ∨ m = 3 ∨ m = 4 ∨ m = 5 ∨ m = 6 ∨ m = 7 ∨ m = 8 ∨ m = 9 ∨ m = 10 ∨ m = 11 := by omega
  have L2 : dvLn (400 * e + b + 1) 2 = pif (dvLp (400 * e + b + 1)) 29 28 := by unfold dvLn; exact if_pos rfl
  have ln : ∀ (y j : Int) , j ≠ 2 → dvLn y j = if j = 4 ∨ j = 6 ∨ j = 9 ∨ j = 11 then 30 else 31 := fun y j hj => by unfold dvLn; rw [if_neg hj]
  refine ⟨?_, ?_⟩
  · unfold dvOk
    by_cases c : 9 < m
    · rw [if_pos c, if_pos c]
      by_cases c11 : m = 11
      · subst c11
        rw [show (11 : Int) - 9 = 2 by decide, L2]
        by_cases w : dvLp (400 * e + b + 1)
        · rw [pif_t w]; omega
        · rw [pif_f w]
          have : ¬ k = 365 := fun q => by
            have D3 := D.2.2 q
            exact w (by unfold dvLp; omega)
          omega
      · rw [ln _ _ (by omega)]
        split <;> omega
    · rw [if_neg c, if_neg c, ln _ _ (by omega)]
      split <;> omega
  · unfold dvOf
    have q1 : (400 * e + b) / 4 = 100 * e + b / 4 := by omega
    have q2 : (400 * e + b) / 100 = 4 * e + b / 100 := by omega
    have q3 : (400 * e + b) / 400 = e := by omega
    by_cases c : 9 < m
    · rw [if_pos c, if_pos c, if_pos (by omega), if_pos (by omega), show 400 * e + b + 1 - 1 = 400 * e + b by omega, q1, q2, q3, show m - 9 + 9 = m by omega]
      omega
    · rw [if_neg c, if_neg c, if_neg (by omega), if_neg (by omega), show 400 * e + b + 0 = 400 * e + b by omega, q1, q2, q3, show m + 3 - 3 = m by omega]
      omega
theorem dvYl_b : dvYl y = 365 ∨ dvYl y = 366 := by
  have := dvYl_c (y := y)
  have := dvLn_2 (y := y)
  omega
theorem dvYs_m : ∀ (k : Nat) (y : Int), dvYs (y + 1) ≤ dvYs (y + 1 + k)
  | 0, y => by rw [show y + 1 + ((0 : Nat) : Int) = y + 1 by omega]; exact Int.le_refl _
  | k + 1, y => by
    have ih := dvYs_m k y
    have n := dvYs_n (y := y + 1 + k)
    have b := dvYl_b (y := y + 1 + k)
    rw [show y + 1 + ((k + 1 : Nat) : Int) = y + 1 + k + 1 by omega]
    omega
theorem dvMd_m : ∀ (k j : Nat), dvMd y j ≤ dvMd y (j + k)
  | 0, j => Int.le_refl _
  | k + 1, j => by
    have ih := dvMd_m k j
    have b := dvLn_b (y := y) (m := ((j + k : Nat) : Int) + 1)
    show dvMd y j ≤ dvMd y (j + k) + dvLn y (((j + k : Nat) : Int) + 1)
    omega
theorem dvMd_s (h : 1 ≤ m ∧ m ≤ 12) : dvMd y (m.toNat - 1) + dvLn y m = dvMd y m.toNat := by
  have e : dvMd y (m.toNat - 1 + 1) = dvMd y (m.toNat - 1) + dvLn y (((m.toNat - 1 : Nat) : Int) + 1) := rfl
  rw [show m.toNat - 1 + 1 = m.toNat by omega, show (((m.toNat - 1 : Nat) : Int) + 1) = m by omega] at e
  exact e.symm
/-- within its year -/
theorem dvOk_b (h : dvOk y m d) : 0 ≤ dvMd y (m.toNat - 1) + d - 1 ∧ dvMd y (m.toNat - 1) + d - 1 < dvYl y := by
  have s := dvMd_s (y := y) h.1
  have m0 := dvMd_m (y := y) (m.toNat - 1) 0
  have m1 := dvMd_m (y := y) (12 - m.toNat) m.toNat
  have V := dvMd_v (y := y)
  have v12 := V.2.2.2.2.2.2.2.2.2.2.2.2
  have v0 := V.1
  have c := dvYl_c (y := y)
  have h1 := h.1
  have h2 := h.2
  rw [show m.toNat + (12 - m.toNat) = 12 by omega] at m1
  rw [show 0 + (m.toNat - 1) = m.toNat - 1 by omega] at m0
  omega
/-- a day has but one date -/
theorem dvOf_u {y' m' d' : Int} (h : dvOk y m d) (h' : dvOk y' m' d') (e : dvOf y m d = dvOf y' m' d') : y = y' ∧ m = m' ∧ d = d' := by
  have a := dvOf_e (y := y) (d := d) h.1
  have a' := dvOf_e (y := y') (d := d') h'.1
  have b := dvOk_b h
  have b' := dvOk_b h'
  have n := dvYs_n (y := y)
  have n' := dvYs_n (y := y')
  have ey : y = y' := by
    by_cases l : y < y'
    · have := dvYs_m (y' - y - 1).toNat y
      rw [show y + 1 + ((y' - y - 1).toNat : Int) = y' by omega] at this
      omega
    · by_cases g : y' < y
      · have := dvYs_m (y - y' - 1).toNat y'
        rw [show y' + 1 + ((y - y' - 1).toNat : Int) = y by omega] at this
        omega
      · omega
  subst ey
  have s := dvMd_s (y := y) h.1
  have s' := dvMd_s (y := y) h'.1
  have h1 := h.1
  have h2 := h.2
  have h1' := h'.1
  have h2' := h'.2
  have em : m = m' := by
    by_cases l : m < m'
    · have := dvMd_m (y := y) (m'.toNat - 1 - m.toNat) m.toNat
      rw [show m.toNat + (m'.toNat - 1 - m.toNat) = m'.toNat - 1 by omega] at this
      omega
    · by_cases g : m' < m
      · have := dvMd_m (y := y) (m.toNat - 1 - m'.toNat) m'.toNat
        rw [show m'.toNat + (m.toNat - 1 - m'.toNat) = m.toNat - 1 by omega] at this
        omega
      · omega
  subst em
  exact ⟨rfl, rfl, by omega⟩
theorem dvF_u {n : Int} (h : dvOk y m d) (e : dvOf y m d = n) : y = dvYy n ∧ m = dvMm n ∧ d = dvDd n := dvOf_u h (dvF_ok n).1 (e.trans (dvF_ok n).2.symm)
end

/-! DatatypeValues, the reference (X49): days -/
/-- months and millis added to a time -/
noncomputable def dvLt (t mo mi : Int) : Int :=
  86400000 * dvOf ((12 * dvYy (t / 86400000) + dvMm (t / 86400000) - 1 + mo) / 12) ((12 * dvYy (t / 86400000) + dvMm (t / 86400000) - 1 + mo) % 12 + 1) (if dvDd (t / 86400000) < dvLn ((12 * dvYy (t / 86400000) + dvMm (t / 86400000) - 1 + mo) / 12) ((12 * dvYy (t / 86400000) + dvMm (t / 86400000) - 1 + mo) % 12 + 1) then dvDd (t / 86400000) else dvLn ((12 * dvYy (t / 86400000) + dvMm (t / 86400000) - 1 + mo) / 12) ((12 * dvYy (t / 86400000) + dvMm (t / 86400000) - 1 + mo) % 12 + 1)) + t % 86400000 + mi
section
variable {x b y m d n t mo mi : Int}
theorem T49_down {post : Int → Prop} (hb : 0 < b) (hz : -4000000000000000000 ≤ x / b ∧ x / b ≤ 4000000000000000000) (hp : post (x / b)) : wpX49_down post x b := by
  have T := dv_td (x := x) hb
  unfold wpX49_down
  have e1 := Int.tdiv_eq_ediv (a := x) (b := b)
  rw [Int.sign_eq_one_of_pos hb] at e1
  refine ⟨by omega, by split at e1 <;> omega, fun z => ?_, fun z => ?_⟩
  · have := T.1 z
    rw [show Int.tdiv x b - 0 = x / b by omega]; exact ⟨by omega, hp⟩
  · rw [T.2 z]; exact ⟨by omega, hp⟩
theorem T49_rest {post : Int → Prop} (hb : 0 < b) (hb2 : b ≤ 1000000000) (hz : -4000000000000000000 ≤ x / b ∧ x / b ≤ 4000000000000000000) (hp : post (x % b)) : wpX49_rest post x b := by
  unfold wpX49_rest
  refine T49_down hb hz ?_
  have e := Int.emod_def x b
  rw [← e]
  have l := Int.emod_lt_of_pos x hb
  have l0 := Int.emod_nonneg x (show b ≠ 0 by omega)
  exact ⟨by omega, hp⟩
theorem T49_isLongB {X Y : Prop} (hy : -1000000000000 ≤ y ∧ y ≤ 1000000000000) (h1 : dvLp y → Y) (h0 : ¬ dvLp y → X) : wpX49_isLong (fun r => (r = 0 → X) ∧ (¬ r = 0 → Y)) y := by
  unfold wpX49_isLong
  unfold dvLp at h1 h0
  refine T49_rest (by decide) (by decide) (by omega) ⟨fun z => T49_rest (by decide) (by decide) (by omega) ⟨fun z2 => T49_rest (by decide) (by decide) (by omega) ⟨fun z3 => ⟨fun q => absurd q (by decide), fun _ => h1 ⟨z, Or.inr z3⟩⟩, fun z3 => ⟨fun _ => h0 (fun w => w.2.elim (fun q => q z2) z3), fun q => absurd rfl q⟩⟩, fun z2 => ⟨fun q => absurd q (by decide), fun _ => h1 ⟨z, Or.inl z2⟩⟩⟩, fun z => ⟨fun _ => h0 (fun w => z w.1), fun q => absurd rfl q⟩⟩
theorem T49_lengthOf {post : Int → Prop} (hy : -1000000000000 ≤ y ∧ y ≤ 1000000000000) (hp : post (dvLn y m)) : wpX49_lengthOf post y m := by
  unfold wpX49_lengthOf
  unfold dvLn at hp
  refine ⟨fun z => ?_, fun z => ?_⟩
  · rw [if_pos z] at hp
    refine T49_isLongB hy (fun w => ?_) (fun w => ?_)
    · rw [pif_t w] at hp; exact hp
    · rw [pif_f w] at hp; exact hp
  · rw [if_neg z] at hp
    refine ⟨fun z1 => ?_, fun z1 => ⟨fun z2 => ?_, fun z2 => ⟨fun z3 => ?_, fun z3 => ⟨fun z4 => ?_, fun z4 => ?_⟩⟩⟩⟩
    · rw [if_pos (by omega)] at hp; exact hp
    · rw [if_pos (by omega)] at hp; exact hp
    · rw [if_pos (by omega)] at hp; exact hp
    · rw [if_pos (by omega)] at hp; exact hp
    · rw [if_neg (by omega)] at hp; exact hp
/-- days before a month of a year -/
theorem T49_before {post : Int → Prop} (hy : -1000000000 ≤ y ∧ y ≤ 1000000000) (hm : 1 ≤ m ∧ m ≤ 12) (hp : post (dvYs y + dvMd y (m.toNat - 1))) : wpX49_before post y m := by
  unfold wpX49_before
  refine T49_down (by decide) (by omega) ⟨by omega, fun x3 e3 => T49_rest (by decide) (by decide) (by omega) ?_⟩
  have r0 : 0 ≤ y % 400 ∧ y % 400 < 400 := by omega
  have ys : dvYs y = 146097 * (y / 400) + dvYd (y % 400) := rfl
  generalize hr : y % 400 = r at r0 ys ⊢
  have B : ∀ k : Int, 0 ≤ k → k ≤ 400 → 0 ≤ dvYd k ∧ dvYd k ≤ 147000 := fun k k0 k1 => by unfold dvYd; split <;> omega
  refine wl2 (fun f x3 x7 => wX49_before_24 _ r f x3 x7) (fun x3 k => (0 ≤ k ∧ k ≤ r) ∧ x3 = 146097 * (y / 400) + dvYd k) (fun _ k => (r - k).toNat) ?_ x3 0 ⟨by omega, by rw [e3]; show _ = _ + dvYd 0; rw [show dvYd 0 = 0 by decide]; omega⟩
  rintro x3 k ⟨hk, ex⟩ f ih
  have Bk := B k hk.1 (by omega)
  rw [wX49_before_24]
  refine ⟨fun z => ?_, fun z => ?_⟩
  · have ek : k = r := by omega
    rw [ek] at ex
    have exy : x3 = dvYs y := by omega
    rw [exy]
    have YB : -400000000000 ≤ dvYs y ∧ dvYs y ≤ 400000000000 := by have := B r r0.1 (by omega); omega
    have MB : ∀ j : Nat, j ≤ 12 → 0 ≤ dvMd y j ∧ dvMd y j ≤ 366 := fun j hj => by
      have a := dvMd_m (y := y) j 0
      have b := dvMd_m (y := y) (12 - j) j
      have V := dvMd_v (y := y)
      have v12 := V.2.2.2.2.2.2.2.2.2.2.2.2
      have v0 := V.1
      have l := dvLn_2 (y := y)
      rw [show j + (12 - j) = 12 by omega] at b
      rw [show 0 + j = j by omega] at a
      omega
    refine wl2 (fun f x3 x7 => wX49_before_64 _ y m f x3 x7) (fun x3 k => (1 ≤ k ∧ k ≤ m) ∧ x3 = dvYs y + dvMd y (k.toNat - 1)) (fun _ k => (m - k).toNat) ?_ (dvYs y) 1 ⟨by omega, by show _ = _ + dvMd y 0; show dvYs y = dvYs y + 0; omega⟩
    rintro x3 k ⟨hk, ex⟩ f ih
    rw [wX49_before_64]
    have Mk := MB (k.toNat - 1) (by omega)
    have lb := dvLn_b (y := y) (m := k)
    refine ⟨fun z => ?_, fun z => T49_lengthOf (by omega) ⟨by omega, fun x4 e4 => ⟨by omega, fun k2 e5 => ?_⟩⟩⟩
    · have : k = m := by omega
      rw [ex, this]; exact hp
    · subst e4 e5
      refine ih _ _ ⟨by omega, ?_⟩ (by omega)
      have s := dvMd_s (y := y) (m := k) (by omega)
      rw [show (k + 1).toNat - 1 = k.toNat by omega]
      omega
  · have lp : dvLp k ↔ (k % 4 = 0 ∧ (¬ k % 100 = 0 ∨ k % 400 = 0)) := Iff.rfl
    have st : ∀ v : Int, (dvLp k → v = 366) → (¬ dvLp k → v = 365) → dvYd k + v = dvYd (k + 1) := fun v v1 v0 => by
      have n := dvYs_n (y := k)
      have a : dvYs k = dvYd k := by
        show 146097 * (k / 400) + dvYd (k % 400) = dvYd k
        rw [show k / 400 = 0 by omega, show k % 400 = k by omega]; omega
      have b : dvYs (k + 1) = dvYd (k + 1) := by
        show 146097 * ((k + 1) / 400) + dvYd ((k + 1) % 400) = dvYd (k + 1)
        by_cases c : k + 1 = 400
        · rw [c]; decide
        · rw [show (k + 1) / 400 = 0 by omega, show (k + 1) % 400 = k + 1 by omega]; omega
      unfold dvYl at n
      by_cases w : dvLp k
      · rw [pif_t w] at n; have := v1 w; omega
      · rw [pif_f w] at n; have := v0 w; omega
    refine T49_isLongB (by omega) (fun w => ⟨by omega, fun x4 e4 => ⟨by omega, fun k2 e5 => ?_⟩⟩) (fun w => ⟨by omega, fun x4 e4 => ⟨by omega, fun k2 e5 => ?_⟩⟩)
    · subst e4 e5
      have := st 366 (fun _ => rfl) (fun q => absurd w q)
      exact ih _ _ ⟨by omega, by omega⟩ (by omega)
    · subst e4 e5
      have := st 365 (fun q => absurd q w) (fun _ => rfl)
      exact ih _ _ ⟨by omega, by omega⟩ (by omega)
theorem dvYs_b (hy : -1000000000 ≤ y ∧ y ≤ 1000000000) : -400000000000 ≤ dvYs y ∧ dvYs y ≤ 400000000000 := by
  have : 0 ≤ dvYd (y % 400) ∧ dvYd (y % 400) ≤ 147000 := by unfold dvYd; split <;> omega
  have ys : dvYs y = 146097 * (y / 400) + dvYd (y % 400) := rfl
  omega
theorem dvYs_b2 (hy : -200000000 ≤ y ∧ y ≤ 200000000) : -74000000000 ≤ dvYs y ∧ dvYs y ≤ 74000000000 := by
  have : 0 ≤ dvYd (y % 400) ∧ dvYd (y % 400) ≤ 147000 := by unfold dvYd; split <;> omega
  have ys : dvYs y = 146097 * (y / 400) + dvYd (y % 400) := rfl
  omega
theorem dvMd_b : ∀ j : Nat, j ≤ 12 → 0 ≤ dvMd y j ∧ dvMd y j ≤ 366 := fun j hj => by
  have a := dvMd_m (y := y) j 0
  have b := dvMd_m (y := y) (12 - j) j
  have V := dvMd_v (y := y)
  have v12 := V.2.2.2.2.2.2.2.2.2.2.2.2
  have v0 := V.1
  have l := dvLn_2 (y := y)
  rw [show j + (12 - j) = 12 by omega] at b
  rw [show 0 + j = j by omega] at a
  omega
theorem dvYs_70 : dvYs 1970 = 719528 := by decide
theorem T49_b70 {post : Int → Prop} (hp : post 719528) : wpX49_before post 1970 1 := by
  refine T49_before (by decide) (by decide) ?_
  rw [dvYs_70]; exact hp
theorem T49_dayOf {post : Int → Prop} (hy : -1000000000 ≤ y ∧ y ≤ 1000000000) (hm : 1 ≤ m ∧ m ≤ 12) (hd : -1000 ≤ d ∧ d ≤ 1000) (hp : post (dvOf y m d)) : wpX49_dayOf post y m d := by
  unfold wpX49_dayOf
  have b1 := dvYs_b hy
  have b2 := dvMd_b (y := y) (m.toNat - 1) (by omega)
  refine T49_before hy hm (T49_b70 ?_)
  rw [dvOf_e hm]
  have e := dvOf_e (y := y) (d := d) hm
  exact ⟨by omega, hp⟩
theorem T49_findDate {post : Int → Int → Int → Prop} (hn : -300000000000 ≤ n ∧ n ≤ 300000000000) (hp : post (dvYy n) (dvMm n) (dvDd n)) : wpX49_findDate post n := by
  unfold wpX49_findDate
  refine T49_b70 ⟨by omega, fun al ea => T49_down (by decide) (by omega) ⟨by omega, fun y0 ey => T49_rest (by decide) (by decide) (by omega) ?_⟩⟩
  have r0 : 0 ≤ al % 146097 ∧ al % 146097 < 146097 := by omega
  have yb : -900000000 ≤ y0 ∧ y0 ≤ 900000000 := by omega
  have ys0 : dvYs y0 + al % 146097 = n + 719528 := by
    have ys : dvYs y0 = 146097 * (y0 / 400) + dvYd (y0 % 400) := rfl
    rw [show y0 % 400 = 0 by omega, show dvYd 0 = 0 by decide] at ys
    omega
  generalize al % 146097 = l0 at r0 ys0 ⊢
  -- the months
  have mon : ∀ (y l : Int), dvYs y + l = n + 719528 → 0 ≤ l → l < dvYl y → (-1000000000 ≤ y ∧ y ≤ 1000000000) → ∃ fu : Nat, wX49_findDate_109 (fun (x5_40 : Int) (f_month_41 : Int) => zR (x5_40 + 1) ∧ (∀ f_dayOfMonth_46 : Int, f_dayOfMonth_46 = x5_40 + 1 → (post y f_month_41 f_dayOfMonth_46))) y fu l 1 := fun y l el l0 l1 hy => by
    have yl := dvYl_b (y := y)
    refine wl2 (fun f x m => wX49_findDate_109 _ y f x m) (fun x m => (1 ≤ m ∧ m ≤ 12) ∧ 0 ≤ x ∧ dvMd y (m.toNat - 1) + x = l) (fun _ m => (12 - m).toNat) ?_ l 1 ⟨by decide, l0, by show 0 + l = l; omega⟩
    rintro x m ⟨hm, x0, ex⟩ f ih
    rw [wX49_findDate_109]
    have s := dvMd_s (y := y) hm
    have mb := dvMd_b (y := y) (m.toNat - 1) (by omega)
    refine T49_lengthOf (by omega) ⟨fun z => ⟨by omega, fun d ed => ?_⟩, fun z => T49_lengthOf (by omega) ⟨by have := dvLn_b (y := y) (m := m); omega, fun x2 e2 => ⟨by omega, fun m2 e3 => ?_⟩⟩⟩
    · have ok : dvOk y m d := ⟨hm, by omega, by omega⟩
      have of_ : dvOf y m d = n := by
        have := dvOf_e (y := y) (d := d) hm
        omega
      obtain ⟨u1, u2, u3⟩ := dvF_u ok of_
      rw [u1, u2, u3]; exact hp
    · subst e2 e3
      have m12 : m ≠ 12 := fun q => by
        subst q
        have V := (dvMd_v (y := y)).2.2.2.2.2.2.2.2.2.2.2.2
        have c := dvYl_c (y := y)
        have s11 : dvMd y 11 + dvLn y 12 = dvMd y 12 := s
        have e11 : dvMd y 11 + x = l := ex
        omega
      refine ih _ _ ⟨by omega, by omega, ?_⟩ (by omega)
      rw [show (m + 1).toNat - 1 = m.toNat by omega]; omega
  -- the years
  have yr : ∀ L : Int, L = dvYl y0 → ∃ fu : Nat, wX49_findDate_55 (fun (x5_25 : Int) (f_year_26 : Int) => (∃ fu : Nat, wX49_findDate_109 (fun (x5_40 : Int) (f_month_41 : Int) => zR (x5_40 + 1) ∧ (∀ f_dayOfMonth_46 : Int, f_dayOfMonth_46 = x5_40 + 1 → (post f_year_26 f_month_41 f_dayOfMonth_46))) f_year_26 fu x5_25 1)) fu l0 L y0 := fun L eL => by
    refine wl3 (fun f x L y => wX49_findDate_55 _ f x L y) (fun x L y => (0 ≤ x ∧ x < 146097) ∧ L = dvYl y ∧ dvYs y + x = n + 719528 ∧ y0 ≤ y ∧ y - y0 + x ≤ 146097) (fun x _ _ => x.toNat) ?_ l0 L y0 ⟨r0, eL, ys0, by omega, by omega⟩
    rintro x L y ⟨hx, eL, ex, h0, h1⟩ f ih
    have yl := dvYl_b (y := y)
    rw [wX49_findDate_55]
    refine ⟨fun z => mon y x ex hx.1 (by omega) (by omega), fun z => ⟨by omega, fun x2 e2 => ⟨by omega, fun y2 e3 => ?_⟩⟩⟩
    have n1 := dvYs_n (y := y)
    have go : ∀ L2 : Int, L2 = dvYl y2 → wX49_findDate_55 (fun (x5_25 : Int) (f_year_26 : Int) => (∃ fu : Nat, wX49_findDate_109 (fun (x5_40 : Int) (f_month_41 : Int) => zR (x5_40 + 1) ∧ (∀ f_dayOfMonth_46 : Int, f_dayOfMonth_46 = x5_40 + 1 → (post f_year_26 f_month_41 f_dayOfMonth_46))) f_year_26 fu x5_25 1)) f x2 L2 y2 := fun L2 e4 => by
      subst e3
      exact ih _ _ _ ⟨by omega, e4, by omega, by omega, by omega⟩ (by omega)
    refine T49_isLongB (by omega) (fun w => go 366 (by unfold dvYl; rw [pif_t w])) (fun w => go 365 (by unfold dvYl; rw [pif_f w]))
  refine T49_isLongB (by omega) (fun w => yr 366 (by unfold dvYl; rw [pif_t w])) (fun w => yr 365 (by unfold dvYl; rw [pif_f w]))
theorem dvYy_b (hn : -300000000000 ≤ n ∧ n ≤ 300000000000) : -1000000000 ≤ dvYy n ∧ dvYy n ≤ 1000000000 := by
  have Y := (dvQy_s (o := (n + 719468) % 146097) (by omega)).1
  unfold dvYy
  split <;> omega
theorem T49_later {post : Int → Int → Int → Int → Prop} (ht : -10000000000000000 ≤ t ∧ t ≤ 10000000000000000) (hmo : -2000000000 ≤ mo ∧ mo ≤ 2000000000) (hmi : -10000000000000000 ≤ mi ∧ mi ≤ 10000000000000000) (hp : ∀ y m d, post (dvLt t mo mi) y m d) : wpX49_later post t mo mi := by
  unfold wpX49_later
  have nb : -300000000000 ≤ t / 86400000 ∧ t / 86400000 ≤ 300000000000 := by omega
  have F := (dvF_ok (t / 86400000)).1
  have F1 := F.1
  have F2 := F.2
  have Y : -1000000 ≤ dvYy (t / 86400000) ∧ dvYy (t / 86400000) ≤ 1000000 := by
    have Y := (dvQy_s (o := (t / 86400000 + 719468) % 146097) (by omega)).1
    have tb : -120000000 ≤ t / 86400000 ∧ t / 86400000 ≤ 120000000 := by omega
    unfold dvYy
    split <;> omega
  refine T49_down (by decide) (by omega) (T49_findDate nb ⟨by omega, fun al ea => T49_down (by decide) (by omega) (T49_rest (by decide) (by decide) (by omega) ⟨by omega, fun m em => ?_⟩)⟩)
  have L := dvLn_b (y := al / 12) (m := m)
  have L' := dvLn_b (y := dvYy (t / 86400000)) (m := dvMm (t / 86400000))
  have yb : -200000000 ≤ al / 12 ∧ al / 12 ≤ 200000000 := by omega
  have key : ∀ d : Int, d = (if dvDd (t / 86400000) < dvLn (al / 12) m then dvDd (t / 86400000) else dvLn (al / 12) m) → ∀ y' m' d', wpX49_dayOf (fun (r_23 : Int) => (wpX49_rest (fun (r_25 : Int) => (zL (((86400000 * r_23) + r_25) + mi) ∧ (post (((86400000 * r_23) + r_25) + mi) y' m' d'))) t 86400000)) (al / 12) m d := fun d ed y' m' d' => by
    have hm : 1 ≤ m ∧ m ≤ 12 := by omega
    have hd : -1000 ≤ d ∧ d ≤ 1000 := by rw [ed]; split <;> omega
    refine T49_dayOf (by omega) hm hd (T49_rest (by decide) (by decide) (by omega) ?_)
    have e : 86400000 * dvOf (al / 12) m d + t % 86400000 + mi = dvLt t mo mi := by
      unfold dvLt
      rw [← ea, ← em, ← ed]
    have oe := dvOf_e (y := al / 12) (d := d) hm
    have b1 := dvYs_b2 (y := al / 12) (by omega)
    have b2 := dvMd_b (y := al / 12) (m.toNat - 1) (by omega)
    rw [e]
    exact ⟨by omega, hp _ _ _⟩
  refine T49_lengthOf (by omega) ⟨fun z => T49_lengthOf (by omega) (key _ (by rw [if_neg (by omega)]) _ _ _), fun z => key _ (by rw [if_pos (by omega)]) _ _ _⟩
end

/-! DatatypeValues, the reference (X49): numbers, truths, dates, instants -/
/-- one step, then the rest -/
def dvB (r : Int × Int × Int) (k : Int → Int → Int × Int × Int) : Int × Int × Int := if 0 ≤ r.1 then (r.1, 0, 0) else k r.2.1 r.2.2
def dvWr (tp : Int → Int) (sz b a : Int) : Int × Int × Int := (dvWt tp sz b a, a + 1, 0)
/-- a day -/
noncomputable def dvDy (tp : Int → Int) (sz a : Int) : Int × Int × Int :=
  dvB (dvDg tp sz 4 4 a) fun a1 y => if y = 0 then (a, 0, 0) else dvB (dvWr tp sz 45 a1) fun a2 _ => dvB (dvPr tp sz 1 12 a2) fun a3 m => dvB (dvWr tp sz 45 a3) fun a4 _ => dvB (dvPr tp sz 1 (dvLn y m) a4) fun a5 d => (-1, a5, dvOf y m d)
/-- a zone behind its sign -/
noncomputable def dvZ1 (tp : Int → Int) (sz sg a : Int) : Int × Int × Int :=
  dvB (dvPr tp sz 0 14 a) fun a1 h => dvB (dvWr tp sz 58 a1) fun a2 _ => dvB (dvPr tp sz 0 (if h = 14 then 0 else 59) a2) fun a3 m => (-1, a3, sg * (60 * h + m))
noncomputable def dvZn (tp : Int → Int) (sz a : Int) : Int × Int × Int := if dvH tp sz a = 90 then (-1, a + 1, 0) else if dvH tp sz a = 45 then dvZ1 tp sz (-1) (a + 1) else if dvH tp sz a = 43 then dvZ1 tp sz 1 (a + 1) else (-1, a, 10000)
/-- a part of a second -/
noncomputable def dvTh (tp : Int → Int) (sz a : Int) : Int × Int × Int := dvB (dvDg tp sz 1 3 a) fun a1 v => (-1, a1, v * 10 ^ (3 - (a1 - a).toNat))
/-- where reading goes on well -/
def dvG (sz a : Int) : Prop := 0 ≤ a ∧ a ≤ 64 ∧ sz ≤ 64
section
variable {tp : Int → Int} {sz at_ F b x v lo hi least sg : Int} {most : Nat} {r : Int × Int × Int} {k : Int → Int → Int × Int × Int}
theorem dvG.a (h : dvG sz at_) : dvA sz at_ := ⟨h.1, by have := h.2.1; omega, h.2.2⟩
theorem dvB_f (h : 0 ≤ r.1) : dvB r k = (r.1, 0, 0) := if_pos h
theorem dvB_k (h : r.1 = -1) : dvB r k = k r.2.1 r.2.2 := if_neg (by omega)
theorem dvG_dg (h : dvG sz at_) : dvG sz (dvDg tp sz least most at_).2.1 := by
  have N := dvN_s (tp := tp) (sz := sz) (at_ := at_) (most := most)
  have z := dvN_z (tp := tp) (sz := sz) (at_ := at_) (most := most)
  show dvG sz (at_ + dvN tp sz at_ most)
  unfold dvG at h ⊢
  omega
theorem dvG_pr (h : dvG sz at_) : dvG sz (dvPr tp sz lo hi at_).2.1 := by
  have C := dvPr_c (tp := tp) (sz := sz) (lo := lo) (hi := hi) (at_ := at_) h.1
  rw [C.1]; exact dvG_dg h
theorem dvG_w (h : dvG sz at_) (e : dvH tp sz at_ = b) (hb : 0 ≤ b) : dvG sz (at_ + 1) := by
  have := dvH_s (tp := tp) (sz := sz) (at_ := at_) (by omega)
  unfold dvG at h ⊢
  omega
theorem dvPr_b (h : 0 ≤ at_) : 0 ≤ (dvPr tp sz lo hi at_).2.2 ∧ (dvPr tp sz lo hi at_).2.2 < 100 ∧ ((dvPr tp sz lo hi at_).1 = -1 → lo ≤ (dvPr tp sz lo hi at_).2.2 ∧ (dvPr tp sz lo hi at_).2.2 ≤ hi) := by
  have C := dvPr_c (tp := tp) (sz := sz) (lo := lo) (hi := hi) (at_ := at_) h
  have B := dvV_2 (tp := tp) (sz := sz) (least := 2) (most := 2) (at_ := at_) (Nat.le_refl 2)
  have B0 := dvDg_b (tp := tp) (sz := sz) (least := 2) (most := 2) (at_ := at_) (by decide)
  rw [C.1]
  exact ⟨B0.1, B, fun e => (C.2.1.mp e).2⟩
theorem dvPr_1 (h : 0 ≤ at_) : (dvPr tp sz lo hi at_).1 = -1 ∨ 0 ≤ (dvPr tp sz lo hi at_).1 := (dvPr_c h).2.2
theorem dvWt_1 (h : 0 ≤ at_) : (dvWt tp sz b at_ = -1 ∧ dvH tp sz at_ = b) ∨ (dvWt tp sz b at_ = at_ ∧ ¬ dvH tp sz at_ = b) := by
  unfold dvWt
  by_cases w : dvH tp sz at_ = b
  · rw [if_pos w]; exact Or.inl ⟨rfl, w⟩
  · rw [if_neg w]; exact Or.inr ⟨rfl, w⟩
/-! when there was a fault before -/
theorem T49_digitsX {post : Int → Int → Int → Prop} (h : dvA sz at_) (hl : least ≤ most) (hm : most ≤ 9) (hF : 0 ≤ F) (hp : post 0 at_ F) : wpX49_digits post tp sz at_ F least most := T49_digits h hl hm (Or.inr hF) (fun _ => hp) (fun q => by omega) (fun q => by omega)
theorem T49_pairX {post : Int → Int → Int → Prop} (h : dvA sz at_) (hF : 0 ≤ F) (hp : post 0 at_ F) : wpX49_pair post tp sz at_ F lo hi := T49_pair h (Or.inr hF) (fun _ => hp) (fun q => by omega) (fun q => by omega)
theorem T49_wantX {post : Int → Int → Prop} (h : dvA sz at_) (hF : 0 ≤ F) (hp : post at_ F) : wpX49_want post tp sz at_ F b := T49_want h (fun _ => hp) (fun q => by omega) (fun q => by omega)
theorem T49_takesX {post : Int → Int → Prop} (h : dvA sz at_) (hF : 0 ≤ F) (hp : post 0 at_) : wpX49_takes post tp sz at_ F b := T49_takes h (fun _ => hp) (fun q => by omega) (fun q => by omega)
theorem T49_needX {post : Int → Prop} (hF : 0 ≤ F) (hp : post F) : wpX49_need post F b x := ⟨fun _ => hp, fun q => absurd hF q⟩
/-- the day, after its year -/
theorem T49_d24X {post : Int → Int → Int → Prop} {x1 x2 y1 : Int} (h : dvA sz at_) (hF : 0 ≤ F) (hp : post 0 at_ F) : wX49_day_24 post x1 x2 y1 tp sz at_ F := by
  unfold wX49_day_24
  exact T49_needX hF (T49_wantX h hF (T49_pairX h hF (T49_wantX h hF (T49_goesOnB (fun q => by omega) (fun _ => T49_pairX h hF (T49_goesOnB (fun q => by omega) (fun _ => hp)))))))
theorem T49_dayX {post : Int → Int → Int → Prop} (h : dvA sz at_) (hF : 0 ≤ F) (hp : post 0 at_ F) : wpX49_day post tp sz at_ F := by
  unfold wpX49_day
  exact T49_digitsX (least := 4) (most := 4) h (by decide) (by decide) hF ⟨fun _ => T49_d24X h hF hp, fun q => absurd rfl q⟩
theorem T49_z35X {post : Int → Int → Int → Prop} {x1 : Int} (h : dvA sz at_) (hF : 0 ≤ F) (hp : post 0 at_ F) : wX49_zone_35 post x1 tp sz at_ F := by
  have z63 : ∀ y2, wX49_zone_63 post x1 0 0 y2 tp sz at_ F := fun y2 => by
    unfold wX49_zone_63
    exact T49_pairX h hF ⟨fun _ => ⟨by decide, hp⟩, fun _ => ⟨by decide, hp⟩⟩
  unfold wX49_zone_35
  exact T49_pairX h hF (T49_wantX h hF ⟨fun q => absurd q (by decide), fun _ => z63 59⟩)
theorem T49_zoneX {post : Int → Int → Int → Prop} (h : dvA sz at_) (hF : 0 ≤ F) (hp : post 10000 at_ F) : wpX49_zone post tp sz at_ F := by
  unfold wpX49_zone
  exact T49_takesX h hF ⟨fun _ => T49_takesX h hF ⟨fun _ => T49_takesX h hF ⟨fun _ => hp, fun q => absurd rfl q⟩, fun q => absurd rfl q⟩, fun q => absurd rfl q⟩
/-- a day -/
theorem dvDy_b (h : 0 ≤ at_) (e : (dvDy tp sz at_).1 = -1) : ∃ y m d, (1 ≤ y ∧ y ≤ 9999) ∧ dvOk y m d ∧ (dvDy tp sz at_).2.2 = dvOf y m d := by
  unfold dvDy at e ⊢
  have D := dvDg_f (tp := tp) (sz := sz) (least := 4) (most := 4) h
  have Dv := dvV_4 (tp := tp) (sz := sz) (least := 4) (most := 4) (at_ := at_) (Nat.le_refl 4)
  have D0 := dvDg_b (tp := tp) (sz := sz) (least := 4) (most := 4) (at_ := at_) (by decide)
  have Da : at_ ≤ (dvDg tp sz 4 4 at_).2.1 := by
    have N := dvN_s (tp := tp) (sz := sz) (at_ := at_) (most := 4)
    show at_ ≤ at_ + dvN tp sz at_ 4
    omega
  rcases D with D | D
  · rw [dvB_k D] at e ⊢
    generalize (dvDg tp sz 4 4 at_).2.2 = y at *
    generalize (dvDg tp sz 4 4 at_).2.1 = a1 at *
    by_cases y0 : y = 0
    · rw [if_pos y0] at e; exact absurd e (by show ¬ at_ = -1; omega)
    · rw [if_neg y0] at e ⊢
      have W := dvWt_1 (tp := tp) (sz := sz) (b := 45) (at_ := a1) (by omega)
      rcases W with W | W
      · rw [dvB_k (r := dvWr tp sz 45 a1) W.1] at e ⊢
        have P := dvPr_1 (tp := tp) (sz := sz) (lo := 1) (hi := 12) (at_ := a1 + 1) (by omega)
        have Pb := dvPr_b (tp := tp) (sz := sz) (lo := 1) (hi := 12) (at_ := a1 + 1) (by omega)
        have Pa : 0 ≤ (dvPr tp sz 1 12 (a1 + 1)).2.1 := by
          rw [(dvPr_c (tp := tp) (sz := sz) (lo := 1) (hi := 12) (at_ := a1 + 1) (by omega)).1]
          have N := dvN_s (tp := tp) (sz := sz) (at_ := a1 + 1) (most := 2)
          show 0 ≤ a1 + 1 + dvN tp sz (a1 + 1) 2
          omega
        change (dvB (dvPr tp sz 1 12 (a1 + 1)) _).1 = -1 at e
        rcases P with P | P
        · rw [dvB_k P] at e
          show ∃ y m d, _ ∧ _ ∧ (dvB (dvPr tp sz 1 12 (a1 + 1)) _).2.2 = _
          rw [dvB_k P]
          have Pr := Pb.2.2 P
          generalize (dvPr tp sz 1 12 (a1 + 1)).2.2 = m at *
          generalize (dvPr tp sz 1 12 (a1 + 1)).2.1 = a3 at *
          have W2 := dvWt_1 (tp := tp) (sz := sz) (b := 45) (at_ := a3) Pa
          rcases W2 with W2 | W2
          · rw [dvB_k (r := dvWr tp sz 45 a3) W2.1] at e ⊢
            have Q := dvPr_1 (tp := tp) (sz := sz) (lo := 1) (hi := dvLn y m) (at_ := a3 + 1) (by omega)
            have Qb := dvPr_b (tp := tp) (sz := sz) (lo := 1) (hi := dvLn y m) (at_ := a3 + 1) (by omega)
            change (dvB (dvPr tp sz 1 (dvLn y m) (a3 + 1)) _).1 = -1 at e
            show ∃ y m d, _ ∧ _ ∧ (dvB (dvPr tp sz 1 (dvLn _ _) (a3 + 1)) _).2.2 = _
            rcases Q with Q | Q
            · rw [dvB_k Q]
              exact ⟨y, m, _, by omega, ⟨Pr, (Qb.2.2 Q).1, (Qb.2.2 Q).2⟩, rfl⟩
            · rw [dvB_f Q] at e; exact absurd e (by show ¬ (dvPr tp sz 1 (dvLn y m) (a3 + 1)).1 = -1; omega)
          · rw [dvB_f (r := dvWr tp sz 45 a3) (by show 0 ≤ dvWt tp sz 45 a3; omega)] at e
            exact absurd e (by show ¬ dvWt tp sz 45 a3 = -1; omega)
        · rw [dvB_f P] at e; exact absurd e (by show ¬ (dvPr tp sz 1 12 (a1 + 1)).1 = -1; omega)
      · rw [dvB_f (r := dvWr tp sz 45 a1) (by show 0 ≤ dvWt tp sz 45 a1; omega)] at e
        exact absurd e (by show ¬ dvWt tp sz 45 a1 = -1; omega)
  · rw [dvB_f D] at e; exact absurd e (by show ¬ (dvDg tp sz 4 4 at_).1 = -1; omega)
theorem T49_day {post : Int → Int → Int → Prop} (h : dvG sz at_) (ok : (dvDy tp sz at_).1 = -1 → dvG sz (dvDy tp sz at_).2.1 → post (dvDy tp sz at_).2.2 (dvDy tp sz at_).2.1 (-1)) (bad : 0 ≤ (dvDy tp sz at_).1 → ∀ a, dvG sz a → post 0 a (dvDy tp sz at_).1) : wpX49_day post tp sz at_ (-1) := by
  have D0 := dvDg_b (tp := tp) (sz := sz) (least := 4) (most := 4) (at_ := at_) (by decide)
  have Dv := dvV_4 (tp := tp) (sz := sz) (least := 4) (most := 4) (at_ := at_) (Nat.le_refl 4)
  have G1 := dvG_dg (tp := tp) (least := 4) (most := 4) h
  unfold wpX49_day
  unfold dvDy at ok bad
  refine T49_digits (least := 4) (most := 4) h.a (by decide) (by decide) (Or.inl rfl) (fun q => by omega) (fun _ e1 => ?_) (fun _ e1 => ?_)
  · rw [dvB_k e1] at ok bad
    generalize (dvDg tp sz 4 4 at_).2.2 = y at *
    generalize (dvDg tp sz 4 4 at_).2.1 = a1 at *
    refine ⟨fun y0 => ?_, fun y0 => ?_⟩
    · rw [if_pos y0] at ok bad
      unfold wX49_day_24
      have B := bad h.1 a1 G1
      refine ⟨fun q => by omega, fun _ => ⟨fun _ => ?_, fun q => absurd rfl q⟩⟩
      exact T49_wantX G1.a h.1 (T49_pairX G1.a h.1 (T49_wantX G1.a h.1 (T49_goesOnB (fun q => by have := h.1; omega) (fun _ => T49_pairX G1.a h.1 (T49_goesOnB (fun q => by have := h.1; omega) (fun _ => B))))))
    · rw [if_neg y0] at ok bad
      unfold wX49_day_24
      refine ⟨fun q => by omega, fun _ => ⟨fun q => absurd q (by decide), fun _ => ?_⟩⟩
      have W := dvWt_1 (tp := tp) (sz := sz) (b := 45) (at_ := a1) G1.1
      refine T49_want G1.a (fun q => by omega) (fun _ e2 => ?_) (fun _ e2 => ?_)
      · have w1 : dvWt tp sz 45 a1 = -1 := by omega
        rw [dvB_k (r := dvWr tp sz 45 a1) w1] at ok bad
        have G2 := dvG_w G1 e2 (by decide)
        have Pb := dvPr_b (tp := tp) (sz := sz) (lo := 1) (hi := 12) (at_ := a1 + 1) G2.1
        have G3 := dvG_pr (tp := tp) (lo := 1) (hi := 12) G2
        change (dvB (dvPr tp sz 1 12 (a1 + 1)) _).1 = -1 → dvG sz (dvB (dvPr tp sz 1 12 (a1 + 1)) _).2.1 → post (dvB (dvPr tp sz 1 12 (a1 + 1)) _).2.2 (dvB (dvPr tp sz 1 12 (a1 + 1)) _).2.1 (-1) at ok
        change 0 ≤ (dvB (dvPr tp sz 1 12 (a1 + 1)) _).1 → ∀ a, dvG sz a → post 0 a (dvB (dvPr tp sz 1 12 (a1 + 1)) _).1 at bad
        refine T49_pair G2.a (Or.inl rfl) (fun q => by omega) (fun _ e3 => ?_) (fun _ e3 => ?_)
        · rw [dvB_k e3] at ok bad
          have Pr := Pb.2.2 e3
          generalize (dvPr tp sz 1 12 (a1 + 1)).2.2 = m at *
          generalize (dvPr tp sz 1 12 (a1 + 1)).2.1 = a3 at *
          have W2 := dvWt_1 (tp := tp) (sz := sz) (b := 45) (at_ := a3) G3.1
          refine T49_want G3.a (fun q => by omega) (fun _ e4 => ?_) (fun _ e4 => ?_)
          · have w2 : dvWt tp sz 45 a3 = -1 := by omega
            rw [dvB_k (r := dvWr tp sz 45 a3) w2] at ok bad
            have G4 := dvG_w G3 e4 (by decide)
            have Qb := dvPr_b (tp := tp) (sz := sz) (lo := 1) (hi := dvLn y m) (at_ := a3 + 1) G4.1
            have G5 := dvG_pr (tp := tp) (lo := 1) (hi := dvLn y m) G4
            change (dvB (dvPr tp sz 1 (dvLn y m) (a3 + 1)) _).1 = -1 → dvG sz (dvB (dvPr tp sz 1 (dvLn y m) (a3 + 1)) _).2.1 → post (dvB (dvPr tp sz 1 (dvLn y m) (a3 + 1)) _).2.2 (dvB (dvPr tp sz 1 (dvLn y m) (a3 + 1)) _).2.1 (-1) at ok
            change 0 ≤ (dvB (dvPr tp sz 1 (dvLn y m) (a3 + 1)) _).1 → ∀ a, dvG sz a → post 0 a (dvB (dvPr tp sz 1 (dvLn y m) (a3 + 1)) _).1 at bad
            refine T49_goesOnB (fun _ => T49_lengthOf (by omega) (T49_pair G4.a (Or.inl rfl) (fun q => by omega) (fun _ e5 => ?_) (fun _ e5 => ?_))) (fun q => by omega)
            · rw [dvB_k e5] at ok
              have ln := dvLn_b (y := y) (m := m)
              exact T49_goesOnB (fun _ => T49_dayOf (by omega) Pr (by omega) (ok rfl G5)) (fun q => by omega)
            · rw [dvB_f e5] at bad
              exact T49_goesOnB (fun q => by omega) (fun _ => bad e5 _ G5)
          · rw [dvB_f (r := dvWr tp sz 45 a3) (by show 0 ≤ dvWt tp sz 45 a3; have := G3.1; omega)] at bad
            have wa : dvWt tp sz 45 a3 = a3 := by omega
            have B : post 0 a3 a3 := by
              have := bad (by show 0 ≤ dvWt tp sz 45 a3; have := G3.1; omega) a3 G3
              change post 0 a3 (dvWt tp sz 45 a3) at this
              rw [wa] at this; exact this
            have z := G3.1
            exact T49_goesOnB (fun q => by omega) (fun _ => T49_pairX G3.a z (T49_goesOnB (fun q => by omega) (fun _ => B)))
        · rw [dvB_f e3] at bad
          exact T49_wantX G3.a e3 (T49_goesOnB (fun q => by omega) (fun _ => T49_pairX G3.a e3 (T49_goesOnB (fun q => by omega) (fun _ => bad e3 _ G3))))
      · rw [dvB_f (r := dvWr tp sz 45 a1) (by show 0 ≤ dvWt tp sz 45 a1; have := G1.1; omega)] at bad
        have wa : dvWt tp sz 45 a1 = a1 := by omega
        have B : post 0 a1 a1 := by
          have := bad (by show 0 ≤ dvWt tp sz 45 a1; have := G1.1; omega) a1 G1
          change post 0 a1 (dvWt tp sz 45 a1) at this
          rw [wa] at this; exact this
        have z := G1.1
        exact T49_pairX G1.a z (T49_wantX G1.a z (T49_goesOnB (fun q => by omega) (fun _ => T49_pairX G1.a z (T49_goesOnB (fun q => by omega) (fun _ => B)))))
  · rw [dvB_f e1] at bad
    exact ⟨fun _ => T49_d24X G1.a e1 (bad e1 _ G1), fun _ => T49_d24X G1.a e1 (bad e1 _ G1)⟩
theorem T49_z35 {post : Int → Int → Int → Prop} {x1 : Int} (es : sg = if x1 = 0 then 1 else -1) (h : dvG sz at_) (ok : (dvZ1 tp sz sg at_).1 = -1 → dvG sz (dvZ1 tp sz sg at_).2.1 → post (dvZ1 tp sz sg at_).2.2 (dvZ1 tp sz sg at_).2.1 (-1)) (bad : 0 ≤ (dvZ1 tp sz sg at_).1 → ∀ v a, dvG sz a → post v a (dvZ1 tp sz sg at_).1) : wX49_zone_35 post x1 tp sz at_ (-1) := by
  have Pb := dvPr_b (tp := tp) (sz := sz) (lo := 0) (hi := 14) (at_ := at_) h.1
  have G1 := dvG_pr (tp := tp) (lo := 0) (hi := 14) h
  unfold wX49_zone_35
  unfold dvZ1 at ok bad
  -- in a fault
  have X : ∀ (F hh y2 : Int) (a : Int), 0 ≤ F → dvG sz a → (0 ≤ hh ∧ hh < 100) → (∀ v a, dvG sz a → post v a F) → wX49_zone_63 post x1 hh 0 y2 tp sz a F := fun F hh y2 a hF Ga hb B => by
    unfold wX49_zone_63
    exact T49_pairX Ga.a hF ⟨fun _ => ⟨by omega, B _ _ Ga⟩, fun _ => ⟨by omega, B _ _ Ga⟩⟩
  refine T49_pair h.a (Or.inl rfl) (fun q => by omega) (fun _ e1 => ?_) (fun _ e1 => ?_)
  · rw [dvB_k e1] at ok bad
    have Pr := Pb.2.2 e1
    generalize (dvPr tp sz 0 14 at_).2.2 = hh at *
    generalize (dvPr tp sz 0 14 at_).2.1 = a1 at *
    have W := dvWt_1 (tp := tp) (sz := sz) (b := 58) (at_ := a1) G1.1
    refine T49_want G1.a (fun q => by omega) (fun _ e2 => ?_) (fun _ e2 => ?_)
    · have w1 : dvWt tp sz 58 a1 = -1 := by omega
      rw [dvB_k (r := dvWr tp sz 58 a1) w1] at ok bad
      have G2 := dvG_w G1 e2 (by decide)
      have fin : ∀ y2 : Int, y2 = (if hh = 14 then 0 else 59) → wX49_zone_63 post x1 hh 0 y2 tp sz (a1 + 1) (-1) := fun y2 ey => by
        change (dvB (dvPr tp sz 0 (if hh = 14 then 0 else 59) (a1 + 1)) _).1 = -1 → dvG sz (dvB (dvPr tp sz 0 (if hh = 14 then 0 else 59) (a1 + 1)) _).2.1 → post (dvB (dvPr tp sz 0 (if hh = 14 then 0 else 59) (a1 + 1)) _).2.2 (dvB (dvPr tp sz 0 (if hh = 14 then 0 else 59) (a1 + 1)) _).2.1 (-1) at ok
        change 0 ≤ (dvB (dvPr tp sz 0 (if hh = 14 then 0 else 59) (a1 + 1)) _).1 → ∀ v a, dvG sz a → post v a (dvB (dvPr tp sz 0 (if hh = 14 then 0 else 59) (a1 + 1)) _).1 at bad
        rw [← ey] at ok bad
        have Qb := dvPr_b (tp := tp) (sz := sz) (lo := 0) (hi := y2) (at_ := a1 + 1) G2.1
        have G3 := dvG_pr (tp := tp) (lo := 0) (hi := y2) G2
        unfold wX49_zone_63
        refine T49_pair G2.a (Or.inl rfl) (fun q => by omega) (fun _ e3 => ?_) (fun _ e3 => ?_)
        · rw [dvB_k e3] at ok
          have := ok rfl G3
          dsimp only at this
          rw [es] at this
          refine ⟨fun z => ⟨by omega, ?_⟩, fun z => ⟨by omega, ?_⟩⟩
          · rw [if_pos z] at this; exact this
          · rw [if_neg z] at this; exact this
        · rw [dvB_f e3] at bad
          exact ⟨fun _ => ⟨by omega, bad e3 _ _ G3⟩, fun _ => ⟨by omega, bad e3 _ _ G3⟩⟩
      exact ⟨fun z => fin 0 (by rw [if_pos z]), fun z => fin 59 (by rw [if_neg z])⟩
    · rw [dvB_f (r := dvWr tp sz 58 a1) (by show 0 ≤ dvWt tp sz 58 a1; have := G1.1; omega)] at bad
      have wa : dvWt tp sz 58 a1 = a1 := by omega
      have z := G1.1
      have B : ∀ v a, dvG sz a → post v a a1 := fun v a Ga => by
        have := bad (by show 0 ≤ dvWt tp sz 58 a1; omega) v a Ga
        change post v a (dvWt tp sz 58 a1) at this
        rw [wa] at this; exact this
      exact ⟨fun _ => X _ _ _ _ z G1 (by omega) B, fun _ => X _ _ _ _ z G1 (by omega) B⟩
  · rw [dvB_f e1] at bad
    exact T49_wantX G1.a e1 ⟨fun _ => X _ _ _ _ e1 G1 (by omega) (bad e1), fun _ => X _ _ _ _ e1 G1 (by omega) (bad e1)⟩
theorem T49_zone {post : Int → Int → Int → Prop} (h : dvG sz at_) (ok : (dvZn tp sz at_).1 = -1 → dvG sz (dvZn tp sz at_).2.1 → post (dvZn tp sz at_).2.2 (dvZn tp sz at_).2.1 (-1)) (bad : 0 ≤ (dvZn tp sz at_).1 → ∀ v a, dvG sz a → post v a (dvZn tp sz at_).1) : wpX49_zone post tp sz at_ (-1) := by
  unfold wpX49_zone
  unfold dvZn at ok bad
  refine T49_takes h.a (fun q => by omega) (fun _ e1 => ⟨fun q => absurd q (by decide), fun _ => ?_⟩) (fun _ e1 => ⟨fun _ => ?_, fun q => absurd rfl q⟩)
  · rw [if_pos e1] at ok; exact ok rfl (dvG_w h e1 (by decide))
  · rw [if_neg e1] at ok bad
    refine T49_takes h.a (fun q => by omega) (fun _ e2 => ⟨fun q => absurd q (by decide), fun _ => ?_⟩) (fun _ e2 => ⟨fun _ => ?_, fun q => absurd rfl q⟩)
    · rw [if_pos e2] at ok bad
      exact T49_z35 (sg := -1) rfl (dvG_w h e2 (by decide)) ok bad
    · rw [if_neg e2] at ok bad
      refine T49_takes h.a (fun q => by omega) (fun _ e3 => ⟨fun q => absurd q (by decide), fun _ => ?_⟩) (fun _ e3 => ⟨fun _ => ?_, fun q => absurd rfl q⟩)
      · rw [if_pos e3] at ok bad
        exact T49_z35 (sg := 1) rfl (dvG_w h e3 (by decide)) ok bad
      · rw [if_neg e3] at ok
        exact ok rfl h
theorem dvTh_n (h : 0 ≤ at_) (e : (dvDg tp sz 1 3 at_).1 = -1) : 1 ≤ dvN tp sz at_ 3 := by
  have f1 : (dvDg tp sz 1 3 at_).1 = if dvN tp sz at_ 3 < 1 then at_ + dvN tp sz at_ 3 else -1 := rfl
  have N := dvN_s (tp := tp) (sz := sz) (at_ := at_) (most := 3)
  rw [f1] at e
  by_cases c : dvN tp sz at_ 3 < 1
  · rw [if_pos c] at e
    omega
  · omega
/-- a part of a second, in thousandths -/
theorem T49_th20 {K : Int → Prop} {v c : Int} (hc : 0 ≤ c ∧ c ≤ 3) (hv : 0 ≤ v ∧ v < 1000) (hp : K (v * 10 ^ (3 - c.toNat))) : ∃ fu, wX49_thousandths_20 K fu v c := by
  have s3 : ∀ (u : Int) (n : Nat), K u → wX49_thousandths_20 K (n + 1) u 3 := fun u n h => by
    rw [wX49_thousandths_20]
    exact ⟨fun _ => h, fun z => absurd (by decide) z⟩
  have s2 : ∀ (u : Int) (n : Nat), 0 ≤ u ∧ u < 1000000 → K (u * 10) → wX49_thousandths_20 K (n + 2) u 2 := fun u n hu h => by
    rw [wX49_thousandths_20]
    refine ⟨fun z => absurd z (by decide), fun _ => ⟨by omega, fun a ea => ⟨by omega, fun b eb => ?_⟩⟩⟩
    rw [ea, eb, show (2 : Int) + 1 = 3 from rfl, Int.mul_comm 10 u]; exact s3 _ _ h
  have s1 : ∀ (u : Int) (n : Nat), 0 ≤ u ∧ u < 100000 → K (u * 100) → wX49_thousandths_20 K (n + 3) u 1 := fun u n hu h => by
    rw [wX49_thousandths_20]
    refine ⟨fun z => absurd z (by decide), fun _ => ⟨by omega, fun a ea => ⟨by omega, fun b eb => ?_⟩⟩⟩
    rw [ea, eb, show (1 : Int) + 1 = 2 from rfl]
    refine s2 _ _ (by omega) ?_
    rw [show 10 * u * 10 = u * 100 by omega]; exact h
  have c4 : c = 0 ∨ c = 1 ∨ c = 2 ∨ c = 3 := by omega
  rcases c4 with q | q | q | q <;> subst q
  · refine ⟨4, ?_⟩
    rw [wX49_thousandths_20]
    refine ⟨fun z => absurd z (by decide), fun _ => ⟨by omega, fun a ea => ⟨by omega, fun b eb => ?_⟩⟩⟩
    rw [ea, eb, show (0 : Int) + 1 = 1 from rfl]
    refine s1 _ 0 (by omega) ?_
    have hp2 : K (v * 1000) := hp
    rw [show 10 * v * 100 = v * 1000 by omega]; exact hp2
  · have hp2 : K (v * 100) := hp
    exact ⟨3, s1 _ 0 (by omega) hp2⟩
  · have hp2 : K (v * 10) := hp
    exact ⟨2, s2 _ 0 (by omega) hp2⟩
  · have hp2 : K (v * 1) := hp
    rw [Int.mul_one] at hp2
    exact ⟨1, s3 _ 0 hp2⟩
theorem dvTh_b (h : 0 ≤ at_) : 0 ≤ (dvTh tp sz at_).2.2 ∧ (dvTh tp sz at_).2.2 < 1000 := by
  have N := dvN_s (tp := tp) (sz := sz) (at_ := at_) (most := 3)
  have V := dvV_b (tp := tp) (sz := sz) (at_ := at_) (dvN tp sz at_ 3).toNat (fun j a c => N.2.2 j a (by omega))
  unfold dvTh
  rcases dvDg_f (tp := tp) (sz := sz) (least := 1) (most := 3) h with e | e
  · rw [dvB_k e]
    have n1 := dvTh_n h e
    show 0 ≤ dvV tp at_ (dvN tp sz at_ 3).toNat * 10 ^ (3 - (at_ + dvN tp sz at_ 3 - at_).toNat) ∧ dvV tp at_ (dvN tp sz at_ 3).toNat * 10 ^ (3 - (at_ + dvN tp sz at_ 3 - at_).toNat) < 1000
    rw [show (at_ + dvN tp sz at_ 3 - at_).toNat = (dvN tp sz at_ 3).toNat by omega]
    have c3 : (dvN tp sz at_ 3).toNat = 1 ∨ (dvN tp sz at_ 3).toNat = 2 ∨ (dvN tp sz at_ 3).toNat = 3 := by omega
    rcases c3 with q | q | q <;> rw [q] at V ⊢
    · have : dvV tp at_ 1 < 10 := V.2
      show 0 ≤ dvV tp at_ 1 * 100 ∧ dvV tp at_ 1 * 100 < 1000
      omega
    · have : dvV tp at_ 2 < 100 := V.2
      show 0 ≤ dvV tp at_ 2 * 10 ∧ dvV tp at_ 2 * 10 < 1000
      omega
    · have : dvV tp at_ 3 < 1000 := V.2
      show 0 ≤ dvV tp at_ 3 * 1 ∧ dvV tp at_ 3 * 1 < 1000
      omega
  · rw [dvB_f e]; show (0 : Int) ≤ 0 ∧ (0 : Int) < 1000; decide
theorem T49_thousandthsX {post : Int → Int → Int → Prop} (h : dvA sz at_) (hF : 0 ≤ F) (hp : post 0 at_ F) : wpX49_thousandths post tp sz at_ F := by
  unfold wpX49_thousandths
  refine T49_digitsX (least := 1) (most := 3) h (by decide) (by decide) hF ⟨by omega, fun x4 e4 => T49_th20 (by omega) (by decide) ?_⟩
  rw [Int.zero_mul]; exact hp
theorem T49_thousandths {post : Int → Int → Int → Prop} (h : dvG sz at_) (ok : (dvTh tp sz at_).1 = -1 → dvG sz (dvTh tp sz at_).2.1 → post (dvTh tp sz at_).2.2 (dvTh tp sz at_).2.1 (-1)) (bad : 0 ≤ (dvTh tp sz at_).1 → ∀ v a, dvG sz a → (0 ≤ v ∧ v < 1000000) → post v a (dvTh tp sz at_).1) : wpX49_thousandths post tp sz at_ (-1) := by
  have N := dvN_s (tp := tp) (sz := sz) (at_ := at_) (most := 3)
  have V3 := dvV_3 (tp := tp) (sz := sz) (least := 1) (most := 3) (at_ := at_) (Nat.le_refl 3)
  have V0 := dvDg_b (tp := tp) (sz := sz) (least := 1) (most := 3) (at_ := at_) (by decide)
  have G1 := dvG_dg (tp := tp) (least := 1) (most := 3) h
  have ea : (dvDg tp sz 1 3 at_).2.1 = at_ + dvN tp sz at_ 3 := rfl
  have h2 := h
  unfold dvG at h2
  unfold wpX49_thousandths
  unfold dvTh at ok bad
  refine T49_digits (least := 1) (most := 3) h.a (by decide) (by decide) (Or.inl rfl) (fun q => by omega) (fun _ e1 => ⟨by omega, fun x4 e4 => T49_th20 (by omega) ⟨V0.1, V3⟩ ?_⟩) (fun _ e1 => ⟨by omega, fun x4 e4 => T49_th20 (by omega) ⟨V0.1, V3⟩ ?_⟩)
  · rw [dvB_k e1] at ok
    rw [e4]
    exact ok rfl G1
  · rw [dvB_f e1] at bad
    refine bad e1 _ _ G1 ?_
    have pw : ∀ j : Nat, j ≤ 3 → 1 ≤ (10 : Int) ^ j ∧ (10 : Int) ^ j ≤ 1000 := by decide
    have p := pw (3 - x4.toNat) (by omega)
    generalize (10 : Int) ^ (3 - x4.toNat) = P at p ⊢
    generalize (dvDg tp sz 1 3 at_).2.2 = v at V0 V3 ⊢
    refine ⟨Int.mul_nonneg V0.1 (by omega), ?_⟩
    have := Int.mul_le_mul (show v ≤ 999 by omega) p.2 (by omega) (by decide)
    omega
/-- an instant: fault, place, time, zone -/
noncomputable def dvIz (tp : Int → Int) (sz one a : Int) : Int × Int × Int × Int := if 0 ≤ (dvZn tp sz a).1 then ((dvZn tp sz a).1, 0, 0, 0) else (-1, (dvZn tp sz a).2.1, one, (dvZn tp sz a).2.2)
def dvB4 (r : Int × Int × Int) (k : Int → Int → Int × Int × Int × Int) : Int × Int × Int × Int := if 0 ≤ r.1 then (r.1, 0, 0, 0) else k r.2.1 r.2.2
noncomputable def dvIn (tp : Int → Int) (sz a : Int) : Int × Int × Int × Int :=
  dvB4 (dvDy tp sz a) fun a0 day => dvB4 (dvWr tp sz 84 a0) fun fr _ => dvB4 (dvPr tp sz 0 24 fr) fun a2 h => dvB4 (dvWr tp sz 58 a2) fun a3 _ => dvB4 (dvPr tp sz 0 59 a3) fun a4 m =>
    if h = 24 ∧ ¬ m = 0 then (fr, 0, 0, 0) else dvB4 (dvWr tp sz 58 a4) fun a5 _ => dvB4 (dvPr tp sz 0 (if m = 59 then 60 else 59) a5) fun a6 s =>
    if h = 24 ∧ ¬ (s = 0 ∧ ¬ day = dvOf 9999 12 31) then (fr, 0, 0, 0) else
    if h = 24 ∨ s = 60 ∨ ¬ dvH tp sz a6 = 46 then dvIz tp sz (86400000 * day + 3600000 * h + 60000 * m + 1000 * (if s = 60 then 59 else s)) a6
    else dvB4 (dvTh tp sz (a6 + 1)) fun a7 f => dvIz tp sz (86400000 * day + 3600000 * h + 60000 * m + (1000 * (if s = 60 then 59 else s) + f)) a7
theorem dvB4_f {k : Int → Int → Int × Int × Int × Int} (h : 0 ≤ r.1) : dvB4 r k = (r.1, 0, 0, 0) := if_pos h
theorem dvB4_k {k : Int → Int → Int × Int × Int × Int} (h : r.1 = -1) : dvB4 r k = k r.2.1 r.2.2 := if_neg (by omega)
/-- all that ends with a fault -/
def dvX (post : Int → Int → Int → Int → Prop) (F : Int) : Prop := 0 ≤ F ∧ ∀ a one two, post a F one two
section
variable {post : Int → Int → Int → Int → Prop} {x1 x3 x4 x5 x6 x7 y0 y1 y2 : Int}
theorem T49_i179X (X : dvX post F) (h : dvA sz at_) (b1 : -1000000000 ≤ x1 ∧ x1 ≤ 1000000000) (b4 : 0 ≤ x4 ∧ x4 < 100) (b5 : 0 ≤ x5 ∧ x5 < 100) (b7 : 0 ≤ x7 ∧ x7 < 100000000) : wX49_instant_179 post x1 x4 x5 x7 tp sz at_ F := by
  unfold wX49_instant_179
  exact ⟨by omega, fun one eo => T49_zoneX h X.1 (fun two _ => X.2 _ _ _)⟩
theorem T49_i143X (X : dvX post F) (h : dvA sz at_) (b1 : -1000000000 ≤ x1 ∧ x1 ≤ 1000000000) (b4 : 0 ≤ x4 ∧ x4 < 100) (b5 : 0 ≤ x5 ∧ x5 < 100) (by1 : 0 ≤ y1 ∧ y1 < 100) : wX49_instant_143 post x1 x4 x5 x6 1000 y1 tp sz at_ F := by
  unfold wX49_instant_143
  refine ⟨by omega, fun x7 e7 => ⟨fun _ => T49_i179X X h b1 b4 b5 (by omega), fun _ => ⟨fun _ => T49_i179X X h b1 b4 b5 (by omega), fun _ => T49_takesX h X.1 ⟨fun _ => T49_i179X X h b1 b4 b5 (by omega), fun q => absurd rfl q⟩⟩⟩⟩
theorem T49_iEX (X : dvX post F) (h : dvA sz at_) (b1 : -1000000000 ≤ x1 ∧ x1 ≤ 1000000000) (b4 : 0 ≤ x4 ∧ x4 < 100) (b5 : 0 ≤ x5 ∧ x5 < 100) (b6 : 0 ≤ x6 ∧ x6 < 100) : (x6 = 60 → wX49_instant_143 post x1 x4 x5 x6 1000 59 tp sz at_ F) ∧ (¬ x6 = 60 → wX49_instant_143 post x1 x4 x5 x6 1000 x6 tp sz at_ F) :=
  ⟨fun _ => T49_i143X X h b1 b4 b5 (by decide), fun _ => T49_i143X X h b1 b4 b5 b6⟩
theorem T49_i84X (X : dvX post F) (h : dvA sz at_) (b1 : -1000000000 ≤ x1 ∧ x1 ≤ 1000000000) (b4 : 0 ≤ x4 ∧ x4 < 100) (b5 : 0 ≤ x5 ∧ x5 < 100) : wX49_instant_84 post x1 x3 x4 x5 0 y2 tp sz at_ F := by
  unfold wX49_instant_84
  have E := T49_iEX (x6 := 0) (tp := tp) X h b1 b4 b5 (by decide)
  refine T49_pairX h X.1 ⟨fun _ => ⟨fun _ => T49_dayOf (by decide) (by decide) (by decide) ⟨fun _ => T49_needX X.1 E, fun _ => T49_needX X.1 E⟩, fun q => absurd rfl q⟩, fun _ => T49_needX X.1 E⟩
theorem T49_i58X (X : dvX post F) (h : dvA sz at_) (b1 : -1000000000 ≤ x1 ∧ x1 ≤ 1000000000) (b4 : 0 ≤ x4 ∧ x4 < 100) (b5 : 0 ≤ x5 ∧ x5 < 100) : wX49_instant_58 post x1 x3 x4 x5 y1 tp sz at_ F := by
  unfold wX49_instant_58
  exact T49_needX X.1 (T49_wantX h X.1 ⟨fun _ => T49_i84X X h b1 b4 b5, fun _ => T49_i84X X h b1 b4 b5⟩)
/-- minutes wanting -/
theorem T49_iMX (X : dvX post F) (h : dvA sz at_) (b1 : -1000000000 ≤ x1 ∧ x1 ≤ 1000000000) (b4 : 0 ≤ x4 ∧ x4 < 100) (b5 : 0 ≤ x5 ∧ x5 < 100) : ((x4 = 24 → (((x5 = 0 → (wX49_instant_58 post x1 x3 x4 x5 1 tp sz at_ F)) ∧ (¬ x5 = 0 → (wX49_instant_58 post x1 x3 x4 x5 0 tp sz at_ F))))) ∧ (¬ x4 = 24 → (wX49_instant_58 post x1 x3 x4 x5 1 tp sz at_ F))) :=
  ⟨fun _ => ⟨fun _ => T49_i58X X h b1 b4 b5, fun _ => T49_i58X X h b1 b4 b5⟩, fun _ => T49_i58X X h b1 b4 b5⟩
theorem dvX_1 {G G' : Int} (bad : 0 ≤ G → ∀ a one two, post a G one two) (e : G = G') (h : 0 ≤ G') : dvX post G' := ⟨h, by rw [← e]; exact bad (by omega)⟩
theorem T49_i179 {one : Int} (h : dvG sz at_) (eo : one = 86400000 * x1 + 3600000 * x4 + 60000 * x5 + x7) (ho : zL one) (ok : (dvIz tp sz one at_).1 = -1 → dvG sz (dvIz tp sz one at_).2.1 → post (dvIz tp sz one at_).2.1 (-1) (dvIz tp sz one at_).2.2.1 (dvIz tp sz one at_).2.2.2) (bad : 0 ≤ (dvIz tp sz one at_).1 → ∀ a one' two, post a (dvIz tp sz one at_).1 one' two) : wX49_instant_179 post x1 x4 x5 x7 tp sz at_ (-1) := by
  unfold wX49_instant_179
  rw [← eo]
  unfold dvIz at ok bad
  refine ⟨ho, fun one1 e1 => T49_zone h (fun e2 G2 two e3 => ?_) (fun e2 v a Ga two e3 => ?_)⟩
  · rw [if_neg (by omega)] at ok
    rw [e1, e3]; exact ok rfl G2
  · rw [if_pos e2] at bad
    exact bad e2 _ _ _
theorem T49_i143 {y : Int} (h : dvG sz at_) (b1 : -1000000000 ≤ x1 ∧ x1 ≤ 1000000000) (b4 : 0 ≤ x4 ∧ x4 < 100) (b5 : 0 ≤ x5 ∧ x5 < 100) (b6 : 0 ≤ x6 ∧ x6 ≤ 60) (ey : y = if x6 = 60 then 59 else x6) (R : Int × Int × Int × Int)
    (eR : R = if x4 = 24 ∨ x6 = 60 ∨ ¬ dvH tp sz at_ = 46 then dvIz tp sz (86400000 * x1 + 3600000 * x4 + 60000 * x5 + 1000 * (if x6 = 60 then 59 else x6)) at_ else dvB4 (dvTh tp sz (at_ + 1)) fun a7 f => dvIz tp sz (86400000 * x1 + 3600000 * x4 + 60000 * x5 + (1000 * (if x6 = 60 then 59 else x6) + f)) a7)
    (ok : R.1 = -1 → dvG sz R.2.1 → post R.2.1 (-1) R.2.2.1 R.2.2.2) (bad : 0 ≤ R.1 → ∀ a one two, post a R.1 one two) : wX49_instant_143 post x1 x4 x5 x6 1000 y tp sz at_ (-1) := by
  have yb : 0 ≤ y ∧ y < 100 := by rw [ey]; split <;> omega
  unfold wX49_instant_143
  rw [← ey] at eR
  have go : x4 = 24 ∨ x6 = 60 ∨ ¬ dvH tp sz at_ = 46 → wX49_instant_179 post x1 x4 x5 (1000 * y) tp sz at_ (-1) := fun w => by
    rw [if_pos w] at eR
    rw [eR] at ok bad
    exact T49_i179 h rfl (by omega) ok bad
  refine ⟨by omega, fun x7 e7 => ?_⟩
  subst e7
  refine ⟨fun z => go (Or.inl z), fun z => ⟨fun z2 => go (Or.inr (Or.inl z2)), fun z2 => T49_takes h.a (fun q => by omega) (fun _ e1 => ⟨fun q => absurd q (by decide), fun _ => ?_⟩) (fun _ e1 => ⟨fun _ => go (Or.inr (Or.inr e1)), fun q => absurd rfl q⟩)⟩⟩
  rw [if_neg (fun w => w.elim z (fun w => w.elim z2 (fun w => w e1)))] at eR
  have G1 := dvG_w h e1 (by decide)
  have tb := dvTh_b (tp := tp) (sz := sz) G1.1
  refine T49_thousandths G1 (fun e2 G2 => ⟨by omega, fun x7 e7 => ?_⟩) (fun e2 v a Ga vb => ⟨by omega, fun x7 e7 => ?_⟩)
  · rw [dvB4_k e2] at eR
    rw [eR] at ok bad
    subst e7
    exact T49_i179 G2 rfl (by omega) ok bad
  · rw [dvB4_f e2] at eR
    rw [eR] at bad
    exact T49_i179X (dvX_1 bad rfl e2) Ga.a b1 b4 b5 (by omega)
theorem T49_instant (h : dvG sz at_) (ok : (dvIn tp sz at_).1 = -1 → dvG sz (dvIn tp sz at_).2.1 → post (dvIn tp sz at_).2.1 (-1) (dvIn tp sz at_).2.2.1 (dvIn tp sz at_).2.2.2) (bad : 0 ≤ (dvIn tp sz at_).1 → ∀ a one two, post a (dvIn tp sz at_).1 one two) : wpX49_instant post tp sz at_ (-1) := by
  have db := fun e => dvDy_b (tp := tp) (sz := sz) h.1 e
  unfold wpX49_instant
  unfold dvIn at ok bad
  have z1 : -1000000000 ≤ (0 : Int) ∧ (0 : Int) ≤ 1000000000 := by decide
  have z2 : 0 ≤ (0 : Int) ∧ (0 : Int) < 100 := by decide
  refine T49_day h (fun e0 G0 => ?_) (fun e0 a Ga => ?_)
  rotate_left
  · rw [dvB4_f e0] at bad
    have X := dvX_1 bad rfl e0
    exact T49_wantX Ga.a e0 (T49_pairX Ga.a e0 (T49_wantX Ga.a e0 (T49_pairX Ga.a e0 (T49_iMX X Ga.a z1 z2 z2))))
  rw [dvB4_k e0] at ok bad
  obtain ⟨yy, mm, dd, hy, hok, edy⟩ := db e0
  have dyb : -1000000000 ≤ (dvDy tp sz at_).2.2 ∧ (dvDy tp sz at_).2.2 ≤ 1000000000 := by
    have o := dvOf_e (y := yy) (d := dd) hok.1
    have b1 := dvYs_b2 (y := yy) (by omega)
    have ys : dvYs yy = 146097 * (yy / 400) + dvYd (yy % 400) := rfl
    have yd : 0 ≤ dvYd (yy % 400) ∧ dvYd (yy % 400) ≤ 147000 := by unfold dvYd; split <;> omega
    have b2 := dvOk_b hok
    have yl := dvYl_b (y := yy)
    omega
  generalize (dvDy tp sz at_).2.2 = day at *
  generalize (dvDy tp sz at_).2.1 = a0 at *
  have W := dvWt_1 (tp := tp) (sz := sz) (b := 84) (at_ := a0) G0.1
  refine T49_want G0.a (fun q => by omega) (fun _ e1 => ?_) (fun _ e1 => ?_)
  rotate_left
  · rw [dvB4_f (r := dvWr tp sz 84 a0) (by show 0 ≤ dvWt tp sz 84 a0; have := G0.1; omega)] at bad
    have X : dvX post a0 := dvX_1 (G := dvWt tp sz 84 a0) bad (by omega) G0.1
    exact T49_pairX G0.a X.1 (T49_wantX G0.a X.1 (T49_pairX G0.a X.1 (T49_iMX X G0.a dyb z2 z2)))
  rw [dvB4_k (r := dvWr tp sz 84 a0) (by show dvWt tp sz 84 a0 = -1; omega)] at ok bad
  have G1 := dvG_w G0 e1 (by decide)
  change (dvB4 (dvPr tp sz 0 24 (a0 + 1)) _).1 = -1 → dvG sz (dvB4 (dvPr tp sz 0 24 (a0 + 1)) _).2.1 → post (dvB4 (dvPr tp sz 0 24 (a0 + 1)) _).2.1 (-1) (dvB4 (dvPr tp sz 0 24 (a0 + 1)) _).2.2.1 (dvB4 (dvPr tp sz 0 24 (a0 + 1)) _).2.2.2 at ok
  change 0 ≤ (dvB4 (dvPr tp sz 0 24 (a0 + 1)) _).1 → ∀ a one two, post a (dvB4 (dvPr tp sz 0 24 (a0 + 1)) _).1 one two at bad
  have hfr : (dvWr tp sz 84 a0).2.1 = a0 + 1 := rfl
  generalize a0 + 1 = fr at *
  have P := dvPr_b (tp := tp) (sz := sz) (lo := 0) (hi := 24) (at_ := fr) G1.1
  have G2 := dvG_pr (tp := tp) (lo := 0) (hi := 24) G1
  refine T49_pair G1.a (Or.inl rfl) (fun q => by omega) (fun _ e2 => ?_) (fun _ e2 => ?_)
  rotate_left
  · rw [dvB4_f e2] at bad
    have X := dvX_1 bad rfl e2
    exact T49_wantX G2.a e2 (T49_pairX G2.a e2 (T49_iMX X G2.a dyb (by omega) z2))
  rw [dvB4_k e2] at ok bad
  have hb : 0 ≤ (dvPr tp sz 0 24 fr).2.2 ∧ (dvPr tp sz 0 24 fr).2.2 < 100 := by omega
  generalize (dvPr tp sz 0 24 fr).2.2 = hh at *
  generalize (dvPr tp sz 0 24 fr).2.1 = a2 at *
  have W := dvWt_1 (tp := tp) (sz := sz) (b := 58) (at_ := a2) G2.1
  refine T49_want G2.a (fun q => by omega) (fun _ e3 => ?_) (fun _ e3 => ?_)
  rotate_left
  · rw [dvB4_f (r := dvWr tp sz 58 a2) (by show 0 ≤ dvWt tp sz 58 a2; have := G2.1; omega)] at bad
    have X : dvX post a2 := dvX_1 (G := dvWt tp sz 58 a2) bad (by omega) G2.1
    exact T49_pairX G2.a X.1 (T49_iMX X G2.a dyb hb z2)
  rw [dvB4_k (r := dvWr tp sz 58 a2) (by show dvWt tp sz 58 a2 = -1; omega)] at ok bad
  have G3 := dvG_w G2 e3 (by decide)
  change (dvB4 (dvPr tp sz 0 59 (a2 + 1)) _).1 = -1 → dvG sz (dvB4 (dvPr tp sz 0 59 (a2 + 1)) _).2.1 → post (dvB4 (dvPr tp sz 0 59 (a2 + 1)) _).2.1 (-1) (dvB4 (dvPr tp sz 0 59 (a2 + 1)) _).2.2.1 (dvB4 (dvPr tp sz 0 59 (a2 + 1)) _).2.2.2 at ok
  change 0 ≤ (dvB4 (dvPr tp sz 0 59 (a2 + 1)) _).1 → ∀ a one two, post a (dvB4 (dvPr tp sz 0 59 (a2 + 1)) _).1 one two at bad
  generalize a2 + 1 = a3 at *
  have P := dvPr_b (tp := tp) (sz := sz) (lo := 0) (hi := 59) (at_ := a3) G3.1
  have G4 := dvG_pr (tp := tp) (lo := 0) (hi := 59) G3
  refine T49_pair G3.a (Or.inl rfl) (fun q => by omega) (fun _ e4 => ?_) (fun _ e4 => ?_)
  rotate_left
  · rw [dvB4_f e4] at bad
    exact T49_iMX (dvX_1 bad rfl e4) G4.a dyb hb (by omega)
  rw [dvB4_k e4] at ok bad
  have mb : 0 ≤ (dvPr tp sz 0 59 a3).2.2 ∧ (dvPr tp sz 0 59 a3).2.2 < 100 := by omega
  generalize (dvPr tp sz 0 59 a3).2.2 = mi at *
  generalize (dvPr tp sz 0 59 a3).2.1 = a4 at *
  -- from the need on
  have rest : ¬ (hh = 24 ∧ ¬ mi = 0) → wX49_instant_58 post day fr hh mi 1 tp sz a4 (-1) := fun nb => by
    rw [if_neg nb] at ok bad
    unfold wX49_instant_58
    refine ⟨fun q => by omega, fun _ => ⟨fun q => absurd q (by decide), fun _ => ?_⟩⟩
    have W := dvWt_1 (tp := tp) (sz := sz) (b := 58) (at_ := a4) G4.1
    refine T49_want G4.a (fun q => by omega) (fun _ e5 => ?_) (fun _ e5 => ?_)
    rotate_left
    · rw [dvB4_f (r := dvWr tp sz 58 a4) (by show 0 ≤ dvWt tp sz 58 a4; have := G4.1; omega)] at bad
      have X : dvX post a4 := dvX_1 (G := dvWt tp sz 58 a4) bad (by omega) G4.1
      exact ⟨fun _ => T49_i84X X G4.a dyb hb mb, fun _ => T49_i84X X G4.a dyb hb mb⟩
    rw [dvB4_k (r := dvWr tp sz 58 a4) (by show dvWt tp sz 58 a4 = -1; omega)] at ok bad
    have G5 := dvG_w G4 e5 (by decide)
    change (dvB4 (dvPr tp sz 0 (if mi = 59 then 60 else 59) (a4 + 1)) _).1 = -1 → dvG sz (dvB4 (dvPr tp sz 0 (if mi = 59 then 60 else 59) (a4 + 1)) _).2.1 → post (dvB4 (dvPr tp sz 0 (if mi = 59 then 60 else 59) (a4 + 1)) _).2.1 (-1) (dvB4 (dvPr tp sz 0 (if mi = 59 then 60 else 59) (a4 + 1)) _).2.2.1 (dvB4 (dvPr tp sz 0 (if mi = 59 then 60 else 59) (a4 + 1)) _).2.2.2 at ok
    change 0 ≤ (dvB4 (dvPr tp sz 0 (if mi = 59 then 60 else 59) (a4 + 1)) _).1 → ∀ a one two, post a (dvB4 (dvPr tp sz 0 (if mi = 59 then 60 else 59) (a4 + 1)) _).1 one two at bad
    generalize a4 + 1 = a5 at *
    have sec : ∀ y2 : Int, y2 = (if mi = 59 then 60 else 59) → wX49_instant_84 post day fr hh mi 0 y2 tp sz a5 (-1) := fun y2 ey => by
      have y60 : y2 ≤ 60 := by rw [ey]; split <;> decide
      rw [← ey] at ok bad
      have P := dvPr_b (tp := tp) (sz := sz) (lo := 0) (hi := y2) (at_ := a5) G5.1
      have G6 := dvG_pr (tp := tp) (lo := 0) (hi := y2) G5
      unfold wX49_instant_84
      refine T49_pair G5.a (Or.inl rfl) (fun q => by omega) (fun _ e6 => ?_) (fun _ e6 => ?_)
      · rw [dvB4_k e6] at ok bad
        have sb : 0 ≤ (dvPr tp sz 0 y2 a5).2.2 ∧ (dvPr tp sz 0 y2 a5).2.2 ≤ 60 := by have := P.2.2 e6; omega
        generalize (dvPr tp sz 0 y2 a5).2.2 = s at *
        generalize (dvPr tp sz 0 y2 a5).2.1 = a6 at *
        have good : ¬ (hh = 24 ∧ ¬ (s = 0 ∧ ¬ day = dvOf 9999 12 31)) → ((s = 60 → wX49_instant_143 post day hh mi s 1000 59 tp sz a6 (-1)) ∧ (¬ s = 60 → wX49_instant_143 post day hh mi s 1000 s tp sz a6 (-1))) := fun nb2 => by
          rw [if_neg nb2] at ok bad
          exact ⟨fun z => T49_i143 G6 dyb hb mb sb (by rw [if_pos z]) _ rfl ok bad, fun z => T49_i143 G6 dyb hb mb sb (by rw [if_neg z]) _ rfl ok bad⟩
        have ill : hh = 24 ∧ ¬ (s = 0 ∧ ¬ day = dvOf 9999 12 31) → ((s = 60 → wX49_instant_143 post day hh mi s 1000 59 tp sz a6 fr) ∧ (¬ s = 60 → wX49_instant_143 post day hh mi s 1000 s tp sz a6 fr)) := fun nb2 => by
          rw [if_pos nb2] at bad
          exact T49_iEX (dvX_1 bad hfr G1.1) G6.a dyb hb mb (by omega)
        refine ⟨fun h24 => ⟨fun s0 => T49_dayOf (by decide) (by decide) (by decide) ⟨fun ed => ⟨fun q => by omega, fun _ => ⟨fun _ => ill ⟨h24, fun w => w.2 ed⟩, fun q => absurd rfl q⟩⟩, fun ed => ⟨fun q => by omega, fun _ => ⟨fun q => absurd q (by decide), fun _ => good (fun w => w.2 ⟨s0, ed⟩)⟩⟩⟩, fun s0 => ⟨fun q => by omega, fun _ => ⟨fun _ => ill ⟨h24, fun w => s0 w.1⟩, fun q => absurd rfl q⟩⟩⟩, fun h24 => ⟨fun q => by omega, fun _ => ⟨fun q => absurd q (by decide), fun _ => good (fun w => h24 w.1)⟩⟩⟩
      · rw [dvB4_f e6] at bad
        have X := dvX_1 bad rfl e6
        have E := T49_iEX (tp := tp) (x6 := (dvPr tp sz 0 y2 a5).2.2) X G6.a dyb hb mb (by omega)
        exact ⟨fun _ => ⟨fun _ => T49_dayOf (by decide) (by decide) (by decide) ⟨fun _ => T49_needX X.1 E, fun _ => T49_needX X.1 E⟩, fun _ => T49_needX X.1 E⟩, fun _ => T49_needX X.1 E⟩
    exact ⟨fun z => sec 60 (by rw [if_pos z]), fun z => sec 59 (by rw [if_neg z])⟩
  refine ⟨fun h24 => ⟨fun m0 => rest (fun w => w.2 m0), fun m0 => ?_⟩, fun h24 => rest (fun w => h24 w.1)⟩
  rw [if_pos ⟨h24, m0⟩] at bad
  have X : dvX post fr := dvX_1 bad hfr G1.1
  unfold wX49_instant_58
  exact ⟨fun q => by omega, fun _ => ⟨fun _ => T49_wantX G4.a X.1 ⟨fun _ => T49_i84X X G4.a dyb hb mb, fun _ => T49_i84X X G4.a dyb hb mb⟩, fun q => absurd rfl q⟩⟩
end
end

/-! DatatypeValues, the reference (X49): truths, numbers, spans -/
/-- letters that must stand there, off a number's bytes -/
def dvWk (tp : Int → Int) (sz w : Int) : Nat → Int → Int × Int
  | 0, a => (-1, a)
  | j + 1, a => if dvH tp sz a = w / 2 ^ (8 * (j : Int)).toNat % 256 then dvWk tp sz w j (a + 1) else (a, a)
def dvTr (tp : Int → Int) (sz a : Int) : Int × Int × Int := if dvH tp sz a = 49 then (-1, a + 1, 1) else if dvH tp sz a = 48 then (-1, a + 1, 0) else if dvH tp sz a = 116 then ((dvWk tp sz 1953658213 4 a).1, (dvWk tp sz 1953658213 4 a).2, 1) else ((dvWk tp sz 439721161573 5 a).1, (dvWk tp sz 439721161573 5 a).2, 0)
def dvGc (x y : Int) : Int := (Nat.gcd x.natAbs y.natAbs : Nat)
/-- a number's place behind its sign, and the sign -/
def dvSg (tp : Int → Int) (sz a : Int) : Int := if dvH tp sz a = 45 ∨ dvH tp sz a = 43 then a + 1 else a
noncomputable def dvOn (tp : Int → Int) (sz a : Int) : Int := if dvH tp sz a = 45 then -(dvDg tp sz 1 9 (dvSg tp sz a)).2.2 else (dvDg tp sz 1 9 (dvSg tp sz a)).2.2
noncomputable def dvNu (tp : Int → Int) (sz kind a : Int) : Int × Int × Int × Int :=
  dvB4 (dvDg tp sz 1 9 (dvSg tp sz a)) fun a1 _ => if kind = 1 ∧ ¬ (-128 ≤ dvOn tp sz a ∧ dvOn tp sz a ≤ 127) then (dvSg tp sz a, 0, 0, 0) else
    if kind = 2 ∧ dvH tp sz a1 = 47 then dvB4 (dvDg tp sz 1 9 (a1 + 1)) fun a2 l => if l = 0 then (a1 + 1, 0, 0, 0) else (-1, a2, Int.tdiv (dvOn tp sz a) (dvGc (dvOn tp sz a) l), Int.tdiv l (dvGc (dvOn tp sz a) l))
    else (-1, a1, dvOn tp sz a, 1)
section
variable {tp : Int → Int} {sz at_ F b x y v w : Int}
theorem T49_wk {K : Int → Int → Prop} : ∀ (j : Nat) (a : Int), j ≤ 5 → dvG sz a → ((dvWk tp sz w j a).1 = -1 → dvG sz (dvWk tp sz w j a).2 → K (dvWk tp sz w j a).2 (-1)) → (0 ≤ (dvWk tp sz w j a).1 → ∀ a', dvG sz a' → K a' (dvWk tp sz w j a).1) → wX49_truth_82 K w tp sz (j + 1) ((j : Int) - 1) a (-1)
  | 0, a, _, G, ok, _ => by
    rw [wX49_truth_82]
    exact ⟨fun _ => ok rfl G, fun z => by omega⟩
  | j + 1, a, hj, G, ok, bad => by
    rw [wX49_truth_82, show ((j + 1 : Nat) : Int) - 1 = j by omega]
    unfold dvWk at ok bad
    -- with a fault
    have X : ∀ (i : Nat) (a F : Int), i ≤ 5 → 0 ≤ F → dvG sz a → K a F → wX49_truth_82 K w tp sz (i + 1) ((i : Int) - 1) a F := fun i => by
      induction i with
      | zero =>
        intro a F _ _ _ hp
        rw [wX49_truth_82]
        exact ⟨fun _ => hp, fun z => by omega⟩
      | succ i ih =>
        intro a F hi hF Ga hp
        rw [wX49_truth_82, show ((i + 1 : Nat) : Int) - 1 = i by omega]
        refine ⟨fun z => by omega, fun _ => ⟨by omega, by omega, by omega, T49_wantX Ga.a hF ⟨by omega, fun x3 e3 => ?_⟩⟩⟩
        rw [e3, show (i : Int) + -1 = i - 1 by omega]
        exact ih a F (by omega) hF Ga hp
    refine ⟨fun z => by omega, fun _ => ⟨by omega, by omega, by omega, T49_want G.a (fun q => by omega) (fun _ e1 => ⟨by omega, fun x3 e3 => ?_⟩) (fun _ e1 => ⟨by omega, fun x3 e3 => ?_⟩)⟩⟩
    · rw [if_pos e1] at ok bad
      rw [e3, show (j : Int) + -1 = j - 1 by omega]
      exact T49_wk j (a + 1) (by omega) (dvG_w G e1 (by omega)) ok bad
    · rw [if_neg e1] at bad
      rw [e3, show (j : Int) + -1 = j - 1 by omega]
      exact X j a a (by omega) G.1 G (bad G.1 a G)
theorem T49_truth {post : Int → Int → Int → Prop} (h : dvG sz at_) (ok : (dvTr tp sz at_).1 = -1 → dvG sz (dvTr tp sz at_).2.1 → post (dvTr tp sz at_).2.1 (-1) (dvTr tp sz at_).2.2) (bad : 0 ≤ (dvTr tp sz at_).1 → ∀ a one, post a (dvTr tp sz at_).1 one) : wpX49_truth post tp sz at_ (-1) := by
  unfold wpX49_truth
  unfold dvTr at ok bad
  refine T49_takes h.a (fun q => by omega) (fun _ e1 => ⟨fun q => absurd q (by decide), fun _ => ?_⟩) (fun _ e1 => ⟨fun _ => ?_, fun q => absurd rfl q⟩)
  · rw [if_pos e1] at ok; exact ok rfl (dvG_w h e1 (by decide))
  rw [if_neg e1] at ok bad
  refine T49_takes h.a (fun q => by omega) (fun _ e2 => ⟨fun q => absurd q (by decide), fun _ => ?_⟩) (fun _ e2 => ⟨fun _ => ?_, fun q => absurd rfl q⟩)
  · rw [if_pos e2] at ok; exact ok rfl (dvG_w h e2 (by decide))
  rw [if_neg e2] at ok bad
  refine T49_here h.a ⟨fun e3 => ?_, fun e3 => ?_⟩
  · rw [if_pos e3] at ok bad
    unfold wX49_truth_45
    exact ⟨fun _ => ⟨fun _ => ⟨5, T49_wk 4 at_ (by decide) h ok (fun q a _ => bad q a 1)⟩, fun q => absurd rfl q⟩, fun q => absurd rfl q⟩
  · rw [if_neg e3] at ok bad
    unfold wX49_truth_45
    exact ⟨fun q => absurd q (by decide), fun _ => ⟨fun q => absurd q (by decide), fun _ => ⟨6, T49_wk 5 at_ (by decide) h ok (fun q a _ => bad q a 0)⟩⟩⟩
/-! greatest divisors -/
theorem T49_div17 {K : Int → Prop} : ∀ (n : Nat) (a b : Nat), b < n → a ≤ 9000000000000000000 ∧ b ≤ 9000000000000000000 → K (Nat.gcd a b : Nat) → wX49_divisor_17 K n a b
  | 0, _, _, h, _, _ => by omega
  | n + 1, a, b, h, ha, hp => by
    rw [wX49_divisor_17]
    refine ⟨fun z => ?_, fun z => ⟨z, ?_, fun c ec => ?_⟩⟩
    · have : b = 0 := by omega
      rw [this, Nat.gcd_zero_right] at hp; exact hp
    · have d : Int.tdiv (a : Int) (b : Int) = ((a / b : Nat) : Int) := by rw [Int.tdiv_eq_ediv_of_nonneg (by omega)]; rfl
      have l := Nat.div_le_self a b
      rw [d]
      generalize a / b = q at l
      omega
    · have e : Int.tmod (a : Int) (b : Int) = ((a % b : Nat) : Int) := by rw [Int.tmod_eq_emod_of_nonneg (by omega)]; rfl
      rw [ec, e]
      have l := Nat.mod_lt a (show b > 0 by omega)
      refine T49_div17 n b (a % b) (by omega) (by omega) ?_
      rw [Nat.gcd_comm a b, Nat.gcd_rec b a, Nat.gcd_comm (a % b) b] at hp
      exact hp
theorem T49_divisor {post : Int → Prop} (hx : -9000000000000000000 ≤ x ∧ x ≤ 9000000000000000000) (hy : 0 ≤ y ∧ y ≤ 9000000000000000000) (hp : post (dvGc x y)) : wpX49_divisor post x y := by
  unfold wpX49_divisor
  have ey : y = ((y.natAbs : Nat) : Int) := by omega
  refine ⟨fun z => ⟨y.natAbs + 1, ?_⟩, fun z => ⟨by omega, fun x4 e4 => ⟨y.natAbs + 1, ?_⟩⟩⟩
  · have ex : x = ((x.natAbs : Nat) : Int) := by omega
    have := T49_div17 (K := post) (y.natAbs + 1) x.natAbs y.natAbs (by omega) (by omega) hp
    rw [← ex, ← ey] at this; exact this
  · have ex : x4 = ((x.natAbs : Nat) : Int) := by omega
    have := T49_div17 (K := post) (y.natAbs + 1) x.natAbs y.natAbs (by omega) (by omega) hp
    rw [← ex, ← ey] at this; exact this
theorem dvGc_b (hy : 0 < y) : 0 < dvGc x y ∧ dvGc x y ≤ y := by
  unfold dvGc
  have a := Nat.gcd_pos_of_pos_right x.natAbs (show 0 < y.natAbs by omega)
  have b := Nat.gcd_le_right x.natAbs (show 0 < y.natAbs by omega)
  omega
theorem dv_tl {g : Int} (hg : 0 < g) : (0 ≤ x → 0 ≤ Int.tdiv x g ∧ Int.tdiv x g ≤ x) ∧ (x ≤ 0 → x ≤ Int.tdiv x g ∧ Int.tdiv x g ≤ 0) := by
  have pos : ∀ x : Int, 0 ≤ x → 0 ≤ Int.tdiv x g ∧ Int.tdiv x g ≤ x := fun x h => by
    rw [Int.tdiv_eq_ediv_of_nonneg h]
    exact ⟨Int.ediv_nonneg h (by omega), Int.ediv_le_self g h⟩
  refine ⟨pos x, fun h => ?_⟩
  have := pos (-x) (by omega)
  rw [Int.neg_tdiv] at this
  omega
/-! numbers -/
theorem dvOn_b : -1000000000 < dvOn tp sz at_ ∧ dvOn tp sz at_ < 1000000000 := by
  have D := dvDg_b (tp := tp) (sz := sz) (least := 1) (most := 9) (at_ := dvSg tp sz at_) (by decide)
  unfold dvOn
  split <;> omega
section
variable {post : Int → Int → Int → Int → Prop} {kind x2 x3 one two : Int}
theorem T49_n135X (X : dvX post F) (h : dvA sz at_) : wX49_number_135 post x3 b at_ F one two := by
  unfold wX49_number_135
  exact T49_needX X.1 (T49_goesOnB (fun q => by have := X.1; omega) (fun _ => X.2 _ _ _))
theorem T49_n80X (X : dvX post F) (h : dvA sz at_) : wX49_number_80 post kind x3 b tp sz at_ F one := by
  unfold wX49_number_80
  exact T49_needX X.1 ⟨fun _ => T49_takesX h X.1 ⟨fun _ => X.2 _ _ _, fun q => absurd rfl q⟩, fun _ => X.2 _ _ _⟩
theorem T49_n47X (X : dvX post F) (h : dvA sz at_) : wX49_number_47 post kind x3 tp sz at_ F one := by
  unfold wX49_number_47
  exact ⟨fun _ => ⟨fun _ => T49_n80X X h, fun _ => ⟨fun _ => T49_n80X X h, fun _ => T49_n80X X h⟩⟩, fun _ => T49_n80X X h⟩
theorem T49_n18 (h : dvG sz at_) (es : dvG sz (dvSg tp sz at_)) (e2 : x2 = 0 ↔ ¬ dvH tp sz at_ = 45) (ok : (dvNu tp sz kind at_).1 = -1 → dvG sz (dvNu tp sz kind at_).2.1 → post (dvNu tp sz kind at_).2.1 (-1) (dvNu tp sz kind at_).2.2.1 (dvNu tp sz kind at_).2.2.2) (bad : 0 ≤ (dvNu tp sz kind at_).1 → ∀ a one two, post a (dvNu tp sz kind at_).1 one two) : wX49_number_18 post kind x2 tp sz (dvSg tp sz at_) (-1) := by
  have D := dvDg_b (tp := tp) (sz := sz) (least := 1) (most := 9) (at_ := dvSg tp sz at_) (by decide)
  have ob := dvOn_b (tp := tp) (sz := sz) (at_ := at_)
  have G1 := dvG_dg (tp := tp) (least := 1) (most := 9) es
  have o0 : x2 = 0 → (dvDg tp sz 1 9 (dvSg tp sz at_)).2.2 = dvOn tp sz at_ := fun z => by unfold dvOn; rw [if_neg (e2.mp z)]
  have o1 : ¬ x2 = 0 → -(dvDg tp sz 1 9 (dvSg tp sz at_)).2.2 = dvOn tp sz at_ := fun z => by unfold dvOn; rw [if_pos (Classical.not_not.mp (fun q => z (e2.mpr q)))]
  unfold wX49_number_18
  unfold dvNu at ok bad
  refine T49_digits (least := 1) (most := 9) es.a (by decide) (by decide) (Or.inl rfl) (fun q => by omega) (fun _ e1 => ?_) (fun _ e1 => ?_)
  · rw [dvB4_k e1] at ok bad
    have key : ∀ one, one = dvOn tp sz at_ → wX49_number_47 post kind (dvSg tp sz at_) tp sz (dvDg tp sz 1 9 (dvSg tp sz at_)).2.1 (-1) one := fun one eo => by
      rw [eo]
      generalize (dvDg tp sz 1 9 (dvSg tp sz at_)).2.1 = a1 at *
      generalize dvOn tp sz at_ = on at *
      have good : ¬ (kind = 1 ∧ ¬ (-128 ≤ on ∧ on ≤ 127)) → wX49_number_80 post kind (dvSg tp sz at_) 1 tp sz a1 (-1) on := fun nb => by
        rw [if_neg nb] at ok bad
        unfold wX49_number_80
        refine ⟨fun q => by omega, fun _ => ⟨fun q => absurd q (by decide), fun _ => ⟨fun k2 => ?_, fun k2 => ?_⟩⟩⟩
        · refine T49_takes G1.a (fun q => by omega) (fun _ e3 => ⟨fun q => absurd q (by decide), fun _ => ?_⟩) (fun _ e3 => ⟨fun _ => ?_, fun q => absurd rfl q⟩)
          · rw [if_pos ⟨k2, e3⟩] at ok bad
            have G2 := dvG_w G1 e3 (by decide)
            have G3 := dvG_dg (tp := tp) (least := 1) (most := 9) G2
            have D2 := dvDg_b (tp := tp) (sz := sz) (least := 1) (most := 9) (at_ := a1 + 1) (by decide)
            refine T49_digits (least := 1) (most := 9) G2.a (by decide) (by decide) (Or.inl rfl) (fun q => by omega) (fun _ e4 => ?_) (fun _ e4 => ?_)
            · rw [dvB4_k e4] at ok bad
              generalize (dvDg tp sz 1 9 (a1 + 1)).2.1 = a2 at *
              generalize (dvDg tp sz 1 9 (a1 + 1)).2.2 = l at *
              refine ⟨fun l0 => ?_, fun l0 => ?_⟩
              · rw [if_pos l0] at bad
                have X : dvX post (a1 + 1) := dvX_1 bad rfl G2.1
                unfold wX49_number_135
                exact ⟨fun q => by omega, fun _ => ⟨fun _ => T49_goesOnB (fun q => by have := X.1; omega) (fun _ => X.2 _ _ _), fun q => absurd rfl q⟩⟩
              · rw [if_neg l0] at ok
                have gb := dvGc_b (x := on) (y := l) (by omega)
                have t1 := dv_tl (x := on) gb.1
                have t2 := dv_tl (x := l) gb.1
                unfold wX49_number_135
                refine ⟨fun q => by omega, fun _ => ⟨fun q => absurd q (by decide), fun _ => T49_goesOnB (fun _ => T49_divisor (by omega) (by omega) ⟨by omega, by omega, fun u eu => ⟨by omega, fun w ew => ?_⟩⟩) (fun q => by omega)⟩⟩
                rw [eu, ew]; exact ok rfl G3
            · rw [dvB4_f e4] at bad
              have X := dvX_1 bad rfl e4
              exact ⟨fun _ => T49_n135X X G3.a, fun _ => T49_n135X X G3.a⟩
          · rw [if_neg (fun w => e3 w.2)] at ok; exact ok rfl G1
        · rw [if_neg (fun w => k2 w.1)] at ok; exact ok rfl G1
      have ill : kind = 1 ∧ ¬ (-128 ≤ on ∧ on ≤ 127) → wX49_number_80 post kind (dvSg tp sz at_) 0 tp sz a1 (-1) on := fun nb => by
        rw [if_pos nb] at bad
        have X : dvX post (dvSg tp sz at_) := dvX_1 bad rfl es.1
        unfold wX49_number_80
        exact ⟨fun q => by omega, fun _ => ⟨fun _ => ⟨fun k2 => by omega, fun _ => X.2 _ _ _⟩, fun q => absurd rfl q⟩⟩
      unfold wX49_number_47
      exact ⟨fun k1 => ⟨fun z => ill ⟨k1, by omega⟩, fun z => ⟨fun z2 => ill ⟨k1, by omega⟩, fun z2 => good (fun w => w.2 (by omega))⟩⟩, fun k1 => good (fun w => k1 w.1)⟩
    exact ⟨fun z => key _ (o0 z), fun z => ⟨by omega, fun one eo => key one (by rw [eo]; exact o1 z)⟩⟩
  · rw [dvB4_f e1] at bad
    have X := dvX_1 bad rfl e1
    exact ⟨fun _ => T49_n47X X G1.a, fun _ => ⟨by omega, fun one _ => T49_n47X X G1.a⟩⟩
theorem T49_number (h : dvG sz at_) (ok : (dvNu tp sz kind at_).1 = -1 → dvG sz (dvNu tp sz kind at_).2.1 → post (dvNu tp sz kind at_).2.1 (-1) (dvNu tp sz kind at_).2.2.1 (dvNu tp sz kind at_).2.2.2) (bad : 0 ≤ (dvNu tp sz kind at_).1 → ∀ a one two, post a (dvNu tp sz kind at_).1 one two) : wpX49_number post tp sz at_ (-1) kind := by
  unfold wpX49_number
  have s1 : dvH tp sz at_ = 45 → dvSg tp sz at_ = at_ + 1 := fun e => by unfold dvSg; rw [if_pos (Or.inl e)]
  have s2 : dvH tp sz at_ = 43 → dvSg tp sz at_ = at_ + 1 := fun e => by unfold dvSg; rw [if_pos (Or.inr e)]
  have s0 : ¬ dvH tp sz at_ = 45 → ¬ dvH tp sz at_ = 43 → dvSg tp sz at_ = at_ := fun e e' => by unfold dvSg; rw [if_neg (fun w => w.elim e e')]
  refine T49_takes h.a (fun q => by omega) (fun _ e1 => ⟨fun q => absurd q (by decide), fun _ => ?_⟩) (fun _ e1 => ⟨fun _ => ?_, fun q => absurd rfl q⟩)
  · have es := s1 e1
    have := T49_n18 (x2 := 1) (kind := kind) h (by rw [es]; exact dvG_w h e1 (by decide)) ⟨fun q => absurd q (by decide), fun q => absurd e1 q⟩ ok bad
    rw [es] at this; exact this
  · refine T49_takes h.a (fun q => by omega) (fun _ e2 => ?_) (fun _ e2 => ?_)
    · have es := s2 e2
      have := T49_n18 (x2 := 0) (kind := kind) h (by rw [es]; exact dvG_w h e2 (by decide)) ⟨fun _ => e1, fun _ => rfl⟩ ok bad
      rw [es] at this; exact this
    · have es := s0 e1 e2
      have := T49_n18 (x2 := 0) (kind := kind) h (by rw [es]; exact h) ⟨fun _ => e1, fun _ => rfl⟩ ok bad
      rw [es] at this; exact this
end
end

/-! DatatypeValues, the reference (X49): spans -/
/-- a letter's place among three -/
def dvAm (tp : Int → Int) (sz L a : Int) : Nat → Int → Int
  | 0, _ => 3
  | n + 1, k => if 3 ≤ k then k else if dvH tp sz a = L / 2 ^ (16 - 8 * k).toNat % 256 then k else dvAm tp sz L a n (k + 1)
/-- years, months, days: fault, place, months, millis, whether there was some -/
noncomputable def dvSp (tp : Int → Int) (sz : Int) : Nat → Int → Int → Int → Int → Int → Int × Int × Int × Int × Int
  | 0, _, a, mo, mi, so => (-1, a, mo, mi, so)
  | n + 1, k, a, mo, mi, so => pif (k < 3 ∧ dvD tp sz a)
      (if 0 ≤ (dvDg tp sz 1 6 a).1 then ((dvDg tp sz 1 6 a).1, 0, 0, 0, 0) else
        if 3 ≤ dvAm tp sz 5852484 (dvDg tp sz 1 6 a).2.1 4 k then ((dvDg tp sz 1 6 a).2.1, 0, 0, 0, 0) else
          dvSp tp sz n (dvAm tp sz 5852484 (dvDg tp sz 1 6 a).2.1 4 k + 1) ((dvDg tp sz 1 6 a).2.1 + 1)
            (mo + (if dvAm tp sz 5852484 (dvDg tp sz 1 6 a).2.1 4 k = 0 then 12 * (dvDg tp sz 1 6 a).2.2 else if dvAm tp sz 5852484 (dvDg tp sz 1 6 a).2.1 4 k = 1 then (dvDg tp sz 1 6 a).2.2 else 0))
            (mi + (if dvAm tp sz 5852484 (dvDg tp sz 1 6 a).2.1 4 k = 2 then 86400000 * (dvDg tp sz 1 6 a).2.2 else 0)) 1)
      (-1, a, mo, mi, so)
/-- what is behind T: fault, place, millis -/
noncomputable def dvCk (tp : Int → Int) (sz : Int) : Nat → Int → Int → Int → Int × Int × Int
  | 0, _, a, mi => (-1, a, mi)
  | n + 1, k, a, mi => if 0 ≤ (dvDg tp sz 1 6 a).1 then ((dvDg tp sz 1 6 a).1, 0, 0) else
      if dvH tp sz (dvDg tp sz 1 6 a).2.1 = 46 then
        (if 0 ≤ (dvTh tp sz ((dvDg tp sz 1 6 a).2.1 + 1)).1 then ((dvTh tp sz ((dvDg tp sz 1 6 a).2.1 + 1)).1, 0, 0) else
          (dvWt tp sz 83 (dvTh tp sz ((dvDg tp sz 1 6 a).2.1 + 1)).2.1, (dvTh tp sz ((dvDg tp sz 1 6 a).2.1 + 1)).2.1 + 1, mi + (1000 * (dvDg tp sz 1 6 a).2.2 + (dvTh tp sz ((dvDg tp sz 1 6 a).2.1 + 1)).2.2)))
      else if 3 ≤ dvAm tp sz 4738387 (dvDg tp sz 1 6 a).2.1 4 k then ((dvDg tp sz 1 6 a).2.1, 0, 0) else
        pif (dvAm tp sz 4738387 (dvDg tp sz 1 6 a).2.1 4 k + 1 < 3 ∧ dvD tp sz ((dvDg tp sz 1 6 a).2.1 + 1))
          (dvCk tp sz n (dvAm tp sz 4738387 (dvDg tp sz 1 6 a).2.1 4 k + 1) ((dvDg tp sz 1 6 a).2.1 + 1) (mi + (if dvAm tp sz 4738387 (dvDg tp sz 1 6 a).2.1 4 k = 0 then 3600000 * (dvDg tp sz 1 6 a).2.2 else if dvAm tp sz 4738387 (dvDg tp sz 1 6 a).2.1 4 k = 1 then 60000 * (dvDg tp sz 1 6 a).2.2 else 1000 * (dvDg tp sz 1 6 a).2.2)))
          (-1, (dvDg tp sz 1 6 a).2.1 + 1, mi + (if dvAm tp sz 4738387 (dvDg tp sz 1 6 a).2.1 4 k = 0 then 3600000 * (dvDg tp sz 1 6 a).2.2 else if dvAm tp sz 4738387 (dvDg tp sz 1 6 a).2.1 4 k = 1 then 60000 * (dvDg tp sz 1 6 a).2.2 else 1000 * (dvDg tp sz 1 6 a).2.2))
/-- the end of a span -/
def dvSe (neg : Prop) [Decidable neg] (so a mo mi : Int) : Int × Int × Int × Int := if so = 0 then (a, 0, 0, 0) else if neg then (-1, a, -mo, -mi) else (-1, a, mo, mi)
noncomputable def dvS1 (tp : Int → Int) (sz : Int) (neg : Prop) [Decidable neg] (a : Int) : Int × Int × Int × Int :=
  if ¬ dvH tp sz a = 80 then (a, 0, 0, 0) else
  if 0 ≤ (dvSp tp sz 4 0 (a + 1) 0 0 0).1 then ((dvSp tp sz 4 0 (a + 1) 0 0 0).1, 0, 0, 0) else
  if dvH tp sz (dvSp tp sz 4 0 (a + 1) 0 0 0).2.1 = 84 then
    (if 0 ≤ (dvCk tp sz 4 0 ((dvSp tp sz 4 0 (a + 1) 0 0 0).2.1 + 1) (dvSp tp sz 4 0 (a + 1) 0 0 0).2.2.2.1).1 then ((dvCk tp sz 4 0 ((dvSp tp sz 4 0 (a + 1) 0 0 0).2.1 + 1) (dvSp tp sz 4 0 (a + 1) 0 0 0).2.2.2.1).1, 0, 0, 0) else
      dvSe neg 1 (dvCk tp sz 4 0 ((dvSp tp sz 4 0 (a + 1) 0 0 0).2.1 + 1) (dvSp tp sz 4 0 (a + 1) 0 0 0).2.2.2.1).2.1 (dvSp tp sz 4 0 (a + 1) 0 0 0).2.2.1 (dvCk tp sz 4 0 ((dvSp tp sz 4 0 (a + 1) 0 0 0).2.1 + 1) (dvSp tp sz 4 0 (a + 1) 0 0 0).2.2.2.1).2.2)
  else dvSe neg (dvSp tp sz 4 0 (a + 1) 0 0 0).2.2.2.2 (dvSp tp sz 4 0 (a + 1) 0 0 0).2.1 (dvSp tp sz 4 0 (a + 1) 0 0 0).2.2.1 (dvSp tp sz 4 0 (a + 1) 0 0 0).2.2.2.1
noncomputable def dvSn (tp : Int → Int) (sz a : Int) : Int × Int × Int × Int := dvS1 tp sz (dvH tp sz a = 45) (if dvH tp sz a = 45 then a + 1 else a)
section
variable {tp : Int → Int} {sz at_ F b x y v w L k mo mi so : Int}
theorem dvAm_b : ∀ (n : Nat) (k : Int), 0 ≤ k → k ≤ 3 → k ≤ dvAm tp sz L at_ n k ∧ dvAm tp sz L at_ n k ≤ 3
  | 0, k, h0, h1 => ⟨h1, Int.le_refl 3⟩
  | n + 1, k, h0, h1 => by
    unfold dvAm
    split
    · omega
    · split
      · omega
      · have := dvAm_b n (k + 1) (by omega) (by omega)
        omega
theorem dvAm_h : ∀ (n : Nat) (k : Int), 0 ≤ k → k ≤ 3 → dvAm tp sz L at_ n k < 3 → dvH tp sz at_ = L / 2 ^ (16 - 8 * dvAm tp sz L at_ n k).toNat % 256
  | 0, k, h0, h1, h => absurd h (by unfold dvAm; decide)
  | n + 1, k, h0, h1, h => by
    unfold dvAm at h ⊢
    by_cases c : 3 ≤ k
    · rw [if_pos c] at h; omega
    · rw [if_neg c] at h ⊢
      by_cases d : dvH tp sz at_ = L / 2 ^ (16 - 8 * k).toNat % 256
      · rw [if_pos d]; exact d
      · rw [if_neg d] at h ⊢
        exact dvAm_h n (k + 1) (by omega) (by omega) h
theorem T49_am {K : Int → Prop} (h : dvA sz at_) : ∀ (n : Nat) (k : Int), 0 ≤ k → 3 ≤ k + n → k ≤ 3 → K (dvAm tp sz L at_ (n + 1) k) → wX49_among_2 K L tp sz at_ (n + 1) k
  | 0, k, h0, h1, h2, hp => by
    have : k = 3 := by omega
    subst this
    rw [wX49_among_2]
    unfold dvAm at hp
    rw [if_pos (by decide)] at hp
    exact ⟨fun _ => hp, fun z => absurd (by decide) z⟩
  | n + 1, k, h0, h1, h2, hp => by
    rw [wX49_among_2]
    unfold dvAm at hp
    refine ⟨fun z => by rw [if_pos z] at hp; exact hp, fun z => T49_here h ⟨by omega, by omega, fun e => ?_, fun e => ⟨by omega, fun k2 e2 => ?_⟩⟩⟩
    · rw [if_neg z, if_pos e] at hp; exact hp
    · rw [if_neg z, if_neg e] at hp
      rw [e2]
      exact T49_am h n (k + 1) (by omega) (by omega) (by omega) hp
theorem T49_among {post : Int → Prop} (h : dvA sz at_) (h0 : 0 ≤ k) (h1 : k ≤ 3) (hp : post (dvAm tp sz L at_ 4 k)) : wpX49_among post tp sz at_ L k := by
  unfold wpX49_among
  exact ⟨4, T49_am h 3 k h0 (by omega) h1 hp⟩
/-- months and millis so far -/
def dvSb (mo mi : Int) : Prop := (0 ≤ mo ∧ mo < 100000000) ∧ 0 ≤ mi ∧ mi < 400000000000000
def dvSd (mo mi : Int) : Prop := (0 ≤ mo ∧ mo < 100000000) ∧ 0 ≤ mi ∧ mi < 1000000000000000
theorem dvSb.d (h : dvSb mo mi) : dvSd mo mi := ⟨h.1, h.2.1, by have := h.2.2; omega⟩
/-- a letter stands within the tape -/
theorem dvG_am (h : dvG sz at_) (h0 : 0 ≤ k) (h1 : k ≤ 3) (c : dvAm tp sz L at_ 4 k < 3) : dvG sz (at_ + 1) := dvG_w h (dvAm_h 4 k h0 h1 c) (by omega)
theorem T49_s27X {K : Int → Int → Int → Int → Int → Prop} {n : Nat} (hF : 0 ≤ F) (hp : K so at_ F mo mi) : wX49_span_27 K tp sz (n + 1) so k at_ F mo mi := by
  rw [wX49_span_27]
  exact T49_goesOnB (fun q => by omega) (fun _ => hp)
theorem T49_s76 {K : Int → Int → Int → Int → Int → Int → Prop} {G : Int} (ha : 0 ≤ at_ ∧ at_ ≤ 70) (hv : 0 ≤ v ∧ v < 1000000) (hx : 0 ≤ x ∧ x ≤ 3) (hmo : 0 ≤ mo ∧ mo ≤ 60000000) (hmi : 0 ≤ mi ∧ mi ≤ 300000000000000) (hG : G = if 0 ≤ F then F else if y = 0 then at_ else F) (hp : K 1 (x + 1) (at_ + 1) G (mo + (if x = 0 then 12 * v else if x = 1 then v else 0)) (mi + (if x = 2 then 86400000 * v else 0))) : wX49_span_76 K v x y at_ F mo mi := by
  have go : ∀ y2 : Int, y2 = (if x = 0 then 12 * v else if x = 1 then v else 0) → wX49_span_124 K v x mo y2 (at_ + 1) G mi := fun y2 e2 => by
    rw [← e2] at hp
    have y2b : 0 ≤ y2 ∧ y2 < 12000000 := by
      rw [e2]
      split
      · omega
      · split <;> omega
    unfold wX49_span_124
    refine ⟨by omega, fun m em => ⟨fun z => ⟨by omega, fun w ew => ⟨by omega, fun k2 ek => ?_⟩⟩, fun z => ⟨by omega, fun w ew => ⟨by omega, fun k2 ek => ?_⟩⟩⟩⟩
    · rw [if_pos z] at hp; rw [em, ew, ek]; exact hp
    · rw [if_neg z] at hp; rw [em, ew, ek]; exact hp
  have all : (zR (at_ + 1) ∧ (∀ f_at_19 : Int, f_at_19 = at_ + 1 → (((x = 0 → (zL (12 * v) ∧ (wX49_span_124 K v x mo (12 * v) f_at_19 G mi))) ∧ (¬ x = 0 → (((x = 1 → (wX49_span_124 K v x mo v f_at_19 G mi)) ∧ (¬ x = 1 → (wX49_span_124 K v x mo 0 f_at_19 G mi))))))))) := by
    refine ⟨by omega, fun a ea => ⟨fun z => ⟨by omega, ?_⟩, fun z => ⟨fun z2 => ?_, fun z2 => ?_⟩⟩⟩
    · rw [ea]; exact go _ (by rw [if_pos z])
    · rw [ea]; exact go _ (by rw [if_neg z, if_pos z2])
    · rw [ea]; exact go _ (by rw [if_neg z, if_neg z2])
  unfold wX49_span_76
  refine ⟨fun z => ?_, fun z => ⟨fun z2 => ?_, fun z2 => ?_⟩⟩
  · rw [if_pos z] at hG; rw [hG] at all; exact all
  · rw [if_neg z, if_pos z2] at hG; rw [hG] at all; exact all
  · rw [if_neg z, if_neg z2] at hG; rw [hG] at all; exact all
theorem T49_sp {K : Int → Int → Int → Int → Int → Prop} : ∀ (n : Nat) (k a mo mi so : Int), 0 ≤ k → k ≤ 3 → 3 < k + n → dvG sz a → (0 ≤ mo ∧ mo ≤ 20000000 * k) → (0 ≤ mi ∧ mi ≤ 90000000000000 * k) → (so = 0 ∨ so = 1) →
    ((dvSp tp sz n k a mo mi so).1 = -1 → dvG sz (dvSp tp sz n k a mo mi so).2.1 → dvSb (dvSp tp sz n k a mo mi so).2.2.1 (dvSp tp sz n k a mo mi so).2.2.2.1 → ((dvSp tp sz n k a mo mi so).2.2.2.2 = 0 ∨ (dvSp tp sz n k a mo mi so).2.2.2.2 = 1) → K (dvSp tp sz n k a mo mi so).2.2.2.2 (dvSp tp sz n k a mo mi so).2.1 (-1) (dvSp tp sz n k a mo mi so).2.2.1 (dvSp tp sz n k a mo mi so).2.2.2.1) →
    (0 ≤ (dvSp tp sz n k a mo mi so).1 → ∀ so' a' mo' mi', dvA sz a' → dvSb mo' mi' → K so' a' (dvSp tp sz n k a mo mi so).1 mo' mi') → wX49_span_27 K tp sz (n + 1) so k a (-1) mo mi
  | 0, k, a, mo, mi, so, _, h1, h2, _, _, _, _, _, _ => by omega
  | n + 1, k, a, mo, mi, so, k0, k3, kn, G, hmo, hmi, hso, ok, bad => by
    rw [wX49_span_27]
    unfold dvSp at ok bad
    have sb : dvSb mo mi := by unfold dvSb; omega
    refine T49_goesOnB (fun _ => ⟨fun z => ?_, fun z => T49_isDigitB G.a (fun D => ?_) (fun D => ?_)⟩) (fun q => by omega)
    · rw [pif_f (fun w => by omega)] at ok; exact ok rfl G sb hso
    rotate_left
    · rw [pif_f (fun w => D w.2)] at ok; exact ok rfl G sb hso
    rw [pif_t ⟨by omega, D⟩] at ok bad
    have V6 := dvV_6 (tp := tp) (sz := sz) (least := 1) (most := 6) (at_ := a) (Nat.le_refl 6)
    have V0 := dvDg_b (tp := tp) (sz := sz) (least := 1) (most := 6) (at_ := a) (by decide)
    have G1 := dvG_dg (tp := tp) (least := 1) (most := 6) G
    have g2 := G1.2.1
    have X1 : ∀ (F x y : Int), 0 ≤ F → 0 ≤ x ∧ x ≤ 3 → (∀ so' a' mo' mi', dvA sz a' → dvSb mo' mi' → K so' a' F mo' mi') → wX49_span_76 (wX49_span_27 K tp sz (n + 1)) (dvDg tp sz 1 6 a).2.2 x y (dvDg tp sz 1 6 a).2.1 F mo mi := fun F x y hF hx B => by
      refine T49_s76 (G := F) ⟨G1.1, by omega⟩ ⟨V0.1, V6⟩ hx (by omega) (by omega) (by rw [if_pos hF]) (T49_s27X hF (B _ _ _ _ ⟨by have := G1.1; omega, by omega, G1.2.2⟩ ?_))
      unfold dvSb
      refine ⟨?_, ?_⟩ <;> split <;> first | omega | (split <;> omega)
    refine T49_digits (least := 1) (most := 6) G.a (by decide) (by decide) (Or.inl rfl) (fun q => by omega) (fun _ e1 => ?_) (fun _ e1 => ?_)
    · rw [if_neg (by omega)] at ok bad
      have ab := dvAm_b (tp := tp) (sz := sz) (L := 5852484) (at_ := (dvDg tp sz 1 6 a).2.1) 4 k k0 k3
      refine T49_among G1.a k0 k3 ⟨fun z => ?_, fun z => ?_⟩
      · rw [if_pos z] at bad
        have e3 : dvAm tp sz 5852484 (dvDg tp sz 1 6 a).2.1 4 k = 3 := by omega
        rw [e3]
        refine T49_s76 (G := (dvDg tp sz 1 6 a).2.1) ⟨G1.1, by omega⟩ ⟨V0.1, V6⟩ (by decide) (by omega) (by omega) (by rw [if_neg (by decide), if_pos rfl]) (T49_s27X G1.1 (bad G1.1 _ _ _ _ ⟨by have := G1.1; omega, by omega, G1.2.2⟩ ?_))
        unfold dvSb
        refine ⟨?_, ?_⟩ <;> split <;> first | omega | (split <;> omega)
      · rw [if_neg z] at ok bad
        have G2 := dvG_am (tp := tp) (L := 5852484) G1 k0 k3 (by omega)
        refine T49_s76 (G := -1) ⟨G1.1, by omega⟩ ⟨V0.1, V6⟩ (by omega) (by omega) (by omega) (by rw [if_neg (by decide), if_neg (by decide)]) ?_
        generalize dvAm tp sz 5852484 (dvDg tp sz 1 6 a).2.1 4 k = j at *
        generalize (dvDg tp sz 1 6 a).2.1 = a1 at *
        generalize (dvDg tp sz 1 6 a).2.2 = v at *
        refine T49_sp n (j + 1) (a1 + 1) _ _ 1 (by omega) (by omega) (by omega) G2 ?_ ?_ (Or.inr rfl) ok bad
        · split <;> first | omega | (split <;> omega)
        · split <;> omega
    · rw [if_pos e1] at bad
      have ab := dvAm_b (tp := tp) (sz := sz) (L := 5852484) (at_ := (dvDg tp sz 1 6 a).2.1) 4 k k0 k3
      exact T49_among G1.a k0 k3 ⟨fun z => X1 _ _ _ e1 (by omega) (bad e1), fun z => X1 _ _ _ e1 (by omega) (bad e1)⟩
/-! what is behind T -/
theorem T49_c4X {K : Int → Int → Int → Int → Prop} {K' : Int → Int → Int → Prop} {n : Nat} {x2 : Int} (hF : 0 ≤ F) (hp : K' at_ F mi) : wX49_clock_4 K K' tp sz (n + 1) k x2 at_ F mi := by
  rw [wX49_clock_4]
  exact ⟨fun _ => hp, fun _ => T49_goesOnB (fun q => by omega) (fun _ => hp)⟩
theorem T49_c133 {K : Int → Int → Int → Int → Int → Prop} {y1 y2 : Int} (h : dvA sz at_) (hx : 0 ≤ x ∧ x ≤ 3) (hy : 0 ≤ y1 + y2 ∧ y1 + y2 < 1000000000000000000) (h1 : x + 1 < 3 → dvD tp sz at_ → K (x + 1) 1 at_ F (y1 + y2)) (h0 : ¬ (x + 1 < 3 ∧ dvD tp sz at_) → K (x + 1) 0 at_ F (y1 + y2)) : wX49_clock_133 K x y1 y2 tp sz at_ F := by
  unfold wX49_clock_133
  refine ⟨by omega, fun m em => ⟨by omega, fun k ek => ?_⟩⟩
  rw [em, ek]
  exact ⟨fun z => h0 (fun w => by omega), fun z => T49_isDigitB h (fun D => h1 (by omega) D) (fun D => h0 (fun w => D w.2))⟩
theorem T49_c79 {K : Int → Int → Int → Int → Int → Prop} {G : Int} (h : dvA sz (at_ + 1)) (ha : 0 ≤ at_) (hv : 0 ≤ v ∧ v < 1000000) (hx : 0 ≤ x ∧ x ≤ 3) (hmi : 0 ≤ mi ∧ mi ≤ 900000000000000) (hG : G = if 0 ≤ F then F else if y = 0 then at_ else F)
    (h1 : x + 1 < 3 → dvD tp sz (at_ + 1) → K (x + 1) 1 (at_ + 1) G (mi + (if x = 0 then 3600000 * v else if x = 1 then 60000 * v else 1000 * v))) (h0 : ¬ (x + 1 < 3 ∧ dvD tp sz (at_ + 1)) → K (x + 1) 0 (at_ + 1) G (mi + (if x = 0 then 3600000 * v else if x = 1 then 60000 * v else 1000 * v))) : wX49_clock_79 K v x y tp sz at_ F mi := by
  have hb := h.2.1
  have go : ∀ y2 : Int, y2 = (if x = 0 then 3600000 * v else if x = 1 then 60000 * v else 1000 * v) → (0 ≤ y2 ∧ y2 < 100000000000000) → wX49_clock_133 K x mi y2 tp sz (at_ + 1) G := fun y2 e2 b2 => by
    rw [← e2] at h1 h0
    exact T49_c133 h hx (by omega) h1 h0
  have all : (zR (at_ + 1) ∧ (∀ f_at_16 : Int, f_at_16 = at_ + 1 → (((x = 0 → (zL (3600000 * v) ∧ (wX49_clock_133 K x mi (3600000 * v) tp sz f_at_16 G))) ∧ (¬ x = 0 → (((x = 1 → (zL (60000 * v) ∧ (wX49_clock_133 K x mi (60000 * v) tp sz f_at_16 G))) ∧ (¬ x = 1 → (zL (1000 * v) ∧ (wX49_clock_133 K x mi (1000 * v) tp sz f_at_16 G)))))))))) := by
    refine ⟨by omega, fun a ea => ⟨fun z => ⟨by omega, ?_⟩, fun z => ⟨fun z2 => ⟨by omega, ?_⟩, fun z2 => ⟨by omega, ?_⟩⟩⟩⟩
    · rw [ea]; exact go _ (by rw [if_pos z]) (by omega)
    · rw [ea]; exact go _ (by rw [if_neg z, if_pos z2]) (by omega)
    · rw [ea]; exact go _ (by rw [if_neg z, if_neg z2]) (by omega)
  unfold wX49_clock_79
  refine ⟨fun z => ?_, fun z => ⟨fun z2 => ?_, fun z2 => ?_⟩⟩
  · rw [if_pos z] at hG; rw [hG] at all; exact all
  · rw [if_neg z, if_pos z2] at hG; rw [hG] at all; exact all
  · rw [if_neg z, if_neg z2] at hG; rw [hG] at all; exact all
/-- seconds with a part -/
theorem T49_c163 {post : Int → Int → Int → Prop} (h : dvG sz at_) (hv : 0 ≤ v ∧ v < 1000000) (hmi : 0 ≤ mi ∧ mi ≤ 900000000000000) (R : Int × Int × Int) (eR : R = if 0 ≤ (dvTh tp sz at_).1 then ((dvTh tp sz at_).1, 0, 0) else (dvWt tp sz 83 (dvTh tp sz at_).2.1, (dvTh tp sz at_).2.1 + 1, mi + (1000 * v + (dvTh tp sz at_).2.2)))
    (ok : R.1 = -1 → dvG sz R.2.1 → (0 ≤ R.2.2 ∧ R.2.2 < 1000000000000000) → post R.2.1 (-1) R.2.2) (bad : 0 ≤ R.1 → ∀ a m, dvA sz a → (0 ≤ m ∧ m < 1000000000000000) → post a R.1 m) :
    wpX49_thousandths (fun (r_44 : Int) (f_at_45 : Int) (f_fault_46 : Int) => (zL (mi + ((1000 * v) + r_44)) ∧ (∀ f_spanMillis_51 : Int, f_spanMillis_51 = mi + ((1000 * v) + r_44) → (wpX49_want (fun (f_at_52 : Int) (f_fault_53 : Int) => (post f_at_52 f_fault_53 f_spanMillis_51)) tp sz f_at_45 f_fault_46 83)))) tp sz at_ (-1) := by
  have tb := dvTh_b (tp := tp) (sz := sz) h.1
  refine T49_thousandths h (fun e2 G2 => ⟨by omega, fun m em => ?_⟩) (fun e2 w a Ga wb => ⟨by omega, fun m em => ?_⟩)
  · rw [if_neg (by omega)] at eR
    rw [eR] at ok bad
    dsimp only at ok bad
    rw [← em] at ok
    have W := dvWt_1 (tp := tp) (sz := sz) (b := 83) (at_ := (dvTh tp sz at_).2.1) G2.1
    refine T49_want G2.a (fun q => by omega) (fun _ e3 => ?_) (fun _ e3 => ?_)
    · exact ok (by omega) (dvG_w G2 e3 (by decide)) (by omega)
    · have wa : dvWt tp sz 83 (dvTh tp sz at_).2.1 = (dvTh tp sz at_).2.1 := by omega
      rw [wa] at bad
      exact bad G2.1 _ _ G2.a (by omega)
  · rw [if_pos e2] at eR
    rw [eR] at bad
    exact T49_wantX Ga.a e2 (bad e2 _ _ Ga.a (by omega))
theorem T49_th163X {post : Int → Int → Int → Prop} (h : dvA sz at_) (hF : 0 ≤ F) (hv : 0 ≤ v ∧ v < 1000000) (hmi : 0 ≤ mi ∧ mi ≤ 900000000000000) (B : ∀ a m, dvA sz a → (0 ≤ m ∧ m < 1000000000000000) → post a F m) :
    wpX49_thousandths (fun (r_44 : Int) (f_at_45 : Int) (f_fault_46 : Int) => (zL (mi + ((1000 * v) + r_44)) ∧ (∀ f_spanMillis_51 : Int, f_spanMillis_51 = mi + ((1000 * v) + r_44) → (wpX49_want (fun (f_at_52 : Int) (f_fault_53 : Int) => (post f_at_52 f_fault_53 f_spanMillis_51)) tp sz f_at_45 f_fault_46 83)))) tp sz at_ F :=
  T49_thousandthsX h hF ⟨by omega, fun m em => T49_wantX h hF (B _ _ h (by omega))⟩
theorem T49_ck {post : Int → Int → Int → Prop} : ∀ (n : Nat) (k a mi : Int), 0 ≤ k → k < 3 → 3 < k + n → dvG sz a → (0 ≤ mi ∧ mi ≤ 400000000000000 + 4000000000000 * k) →
    ((dvCk tp sz n k a mi).1 = -1 → dvG sz (dvCk tp sz n k a mi).2.1 → (0 ≤ (dvCk tp sz n k a mi).2.2 ∧ (dvCk tp sz n k a mi).2.2 < 1000000000000000) → post (dvCk tp sz n k a mi).2.1 (-1) (dvCk tp sz n k a mi).2.2) → (0 ≤ (dvCk tp sz n k a mi).1 → ∀ a' m, dvA sz a' → (0 ≤ m ∧ m < 1000000000000000) → post a' (dvCk tp sz n k a mi).1 m) →
    wX49_clock_4 (fun (x3_39 : Int) (f_at_40 : Int) (f_fault_41 : Int) (f_spanMillis_42 : Int) => wpX49_thousandths (fun (r_44 : Int) (f_at_45 : Int) (f_fault_46 : Int) => (zL (f_spanMillis_42 + ((1000 * x3_39) + r_44)) ∧ (∀ f_spanMillis_51 : Int, f_spanMillis_51 = f_spanMillis_42 + ((1000 * x3_39) + r_44) → (wpX49_want (fun (f_at_52 : Int) (f_fault_53 : Int) => (post f_at_52 f_fault_53 f_spanMillis_51)) tp sz f_at_45 f_fault_46 83)))) tp sz f_at_40 f_fault_41) (fun (f_at_54 : Int) (f_fault_55 : Int) (f_spanMillis_56 : Int) => post f_at_54 f_fault_55 f_spanMillis_56) tp sz (n + 1) k 1 a (-1) mi
  | 0, k, a, mi, _, h1, h2, _, _, _, _ => by omega
  | n + 1, k, a, mi, k0, k3, kn, G, hmi, ok, bad => by
    rw [wX49_clock_4]
    unfold dvCk at ok bad
    have V6 := dvV_6 (tp := tp) (sz := sz) (least := 1) (most := 6) (at_ := a) (Nat.le_refl 6)
    have V0 := dvDg_b (tp := tp) (sz := sz) (least := 1) (most := 6) (at_ := a) (by decide)
    have G1 := dvG_dg (tp := tp) (least := 1) (most := 6) G
    have g2 := G1.2.1
    have ab := dvAm_b (tp := tp) (sz := sz) (L := 4738387) (at_ := (dvDg tp sz 1 6 a).2.1) 4 k k0 (by omega)
    have um : ∀ j : Int, 0 ≤ (if j = 0 then 3600000 * (dvDg tp sz 1 6 a).2.2 else if j = 1 then 60000 * (dvDg tp sz 1 6 a).2.2 else 1000 * (dvDg tp sz 1 6 a).2.2) ∧ (if j = 0 then 3600000 * (dvDg tp sz 1 6 a).2.2 else if j = 1 then 60000 * (dvDg tp sz 1 6 a).2.2 else 1000 * (dvDg tp sz 1 6 a).2.2) < 4000000000000 := fun j => by
      split
      · omega
      · split <;> omega
    refine ⟨fun q => absurd q (by decide), fun _ => T49_goesOnB (fun _ => T49_digits (least := 1) (most := 6) G.a (by decide) (by decide) (Or.inl rfl) (fun q => by omega) (fun _ e1 => ?_) (fun _ e1 => ?_)) (fun q => by omega)⟩
    · rw [if_neg (by omega)] at ok bad
      refine T49_takes G1.a (fun q => by omega) (fun _ e2 => ⟨fun q => absurd q (by decide), fun _ => ?_⟩) (fun _ e2 => ⟨fun _ => ?_, fun q => absurd rfl q⟩)
      · rw [if_pos e2] at ok bad
        exact T49_c163 (dvG_w G1 e2 (by decide)) ⟨V0.1, V6⟩ (by omega) _ rfl ok bad
      · rw [if_neg e2] at ok bad
        refine T49_among G1.a k0 (by omega) ⟨fun z => ?_, fun z => ?_⟩
        · rw [if_pos z] at bad
          have e3 : dvAm tp sz 4738387 (dvDg tp sz 1 6 a).2.1 4 k = 3 := by omega
          rw [e3]
          have u3 := um 3
          have A2 : dvA sz ((dvDg tp sz 1 6 a).2.1 + 1) := ⟨by have := G1.1; omega, by omega, G1.2.2⟩
          exact T49_c79 (G := (dvDg tp sz 1 6 a).2.1) A2 G1.1 ⟨V0.1, V6⟩ (by decide) (by omega) (by rw [if_neg (by decide), if_pos rfl]) (fun q => absurd q (by decide)) (fun _ => T49_c4X G1.1 (bad G1.1 _ _ A2 (by omega)))
        · rw [if_neg z] at ok bad
          have G2 := dvG_am (tp := tp) (L := 4738387) G1 k0 (by omega) (by omega)
          have uj := um (dvAm tp sz 4738387 (dvDg tp sz 1 6 a).2.1 4 k)
          refine T49_c79 (G := -1) G2.a G1.1 ⟨V0.1, V6⟩ (by omega) (by omega) (by rw [if_neg (by decide), if_neg (by decide)]) (fun j3 D => ?_) (fun nD => ?_)
          · rw [pif_t ⟨j3, D⟩] at ok bad
            exact T49_ck n _ _ _ (by omega) j3 (by omega) G2 (by omega) ok bad
          · rw [pif_f nD] at ok
            have n0 : 0 < n := by omega
            obtain ⟨n', en⟩ : ∃ n', n = n' + 1 := ⟨n - 1, by omega⟩
            rw [en, wX49_clock_4]
            exact ⟨fun _ => ok rfl G2 (by dsimp only; omega), fun q => absurd rfl q⟩
    · rw [if_pos e1] at bad
      have X79 : ∀ x y, 0 ≤ x ∧ x ≤ 3 → wX49_clock_79 (wX49_clock_4 (fun (x3_39 : Int) (f_at_40 : Int) (f_fault_41 : Int) (f_spanMillis_42 : Int) => wpX49_thousandths (fun (r_44 : Int) (f_at_45 : Int) (f_fault_46 : Int) => (zL (f_spanMillis_42 + ((1000 * x3_39) + r_44)) ∧ (∀ f_spanMillis_51 : Int, f_spanMillis_51 = f_spanMillis_42 + ((1000 * x3_39) + r_44) → (wpX49_want (fun (f_at_52 : Int) (f_fault_53 : Int) => (post f_at_52 f_fault_53 f_spanMillis_51)) tp sz f_at_45 f_fault_46 83)))) tp sz f_at_40 f_fault_41) (fun (f_at_54 : Int) (f_fault_55 : Int) (f_spanMillis_56 : Int) => post f_at_54 f_fault_55 f_spanMillis_56) tp sz (n + 1)) (dvDg tp sz 1 6 a).2.2 x y tp sz (dvDg tp sz 1 6 a).2.1 (dvDg tp sz 1 6 a).1 mi := fun x y hx => by
        have ux := um x
        have A2 : dvA sz ((dvDg tp sz 1 6 a).2.1 + 1) := ⟨by have := G1.1; omega, by omega, G1.2.2⟩
        exact T49_c79 (G := (dvDg tp sz 1 6 a).1) A2 G1.1 ⟨V0.1, V6⟩ hx (by omega) (by rw [if_pos e1]) (fun _ _ => T49_c4X e1 (bad e1 _ _ A2 (by omega))) (fun _ => T49_c4X e1 (bad e1 _ _ A2 (by omega)))
      exact T49_takesX G1.a e1 ⟨fun _ => T49_among G1.a k0 (by omega) ⟨fun z => X79 _ _ (by omega), fun z => X79 _ _ (by omega)⟩, fun q => absurd rfl q⟩
theorem T49_clockX {post : Int → Int → Int → Prop} (hF : 0 ≤ F) (hp : post at_ F mi) : wpX49_clock post tp sz at_ F mi := by
  unfold wpX49_clock
  exact ⟨1, T49_c4X hF hp⟩
section
variable {post : Int → Int → Int → Int → Int → Int → Prop} {x1 x2 : Int}
theorem T49_s178 {G : Int} (hmo : dvSd mo mi) (ha : F = -1 ∨ 0 ≤ F) (hG : G = if 0 ≤ F then F else if x2 = 0 then at_ else F) (hp : post at_ G (if x1 = 0 then mo else -mo) (if x1 = 0 then mi else -mi) mo mi) : wX49_span_178 post x1 x2 at_ F mo mi := by
  have h2 := hmo
  unfold dvSd at h2
  have all : ((x1 = 0 → (((x1 = 0 → (post at_ G mo mi mo mi)) ∧ (¬ x1 = 0 → (zL (-mi) ∧ (∀ f_two_61 : Int, f_two_61 = -mi → (post at_ G mo f_two_61 mo mi))))))) ∧ (¬ x1 = 0 → (zL (-mo) ∧ (∀ f_one_65 : Int, f_one_65 = -mo → (((x1 = 0 → (post at_ G f_one_65 mi mo mi)) ∧ (¬ x1 = 0 → (zL (-mi) ∧ (∀ f_two_70 : Int, f_two_70 = -mi → (post at_ G f_one_65 f_two_70 mo mi)))))))))) := by
    refine ⟨fun z => ⟨fun _ => ?_, fun q => absurd z q⟩, fun z => ⟨by omega, fun o eo => ⟨fun q => absurd q z, fun _ => ⟨by omega, fun w ew => ?_⟩⟩⟩⟩
    · rw [if_pos z, if_pos z] at hp; exact hp
    · rw [if_neg z, if_neg z] at hp; rw [eo, ew]; exact hp
  unfold wX49_span_178
  refine ⟨fun z => ?_, fun z => ⟨fun z2 => ?_, fun z2 => ?_⟩⟩
  · rw [if_pos z] at hG; rw [hG] at all; exact all
  · rw [if_neg z, if_pos z2] at hG; rw [hG] at all; exact all
  · rw [if_neg z, if_neg z2] at hG; rw [hG] at all; exact all
theorem T49_s1 {neg : Prop} [dn : Decidable neg] {a : Int} (hx : x1 = 0 ↔ ¬ neg) (h : dvG sz a) (R : Int × Int × Int × Int) (eR : R = dvS1 tp sz neg a) (ok : R.1 = -1 → dvG sz R.2.1 → (-1000000000 < R.2.2.1 ∧ R.2.2.1 < 1000000000) → (-1000000000000000 < R.2.2.2 ∧ R.2.2.2 < 1000000000000000) → ∀ sm sl, post R.2.1 (-1) R.2.2.1 R.2.2.2 sm sl) (bad : 0 ≤ R.1 → ∀ a one two sm sl, post a R.1 one two sm sl) :
    wpX49_want (fun (f_at_3 : Int) (f_fault_4 : Int) => ((∃ fu : Nat, wX49_span_27 (fun (x2_47 : Int) (f_at_48 : Int) (f_fault_49 : Int) (f_spanMonths_50 : Int) (f_spanMillis_51 : Int) => wpX49_takes (fun (r_52 : Int) (f_at_53 : Int) => (((r_52 = 0 → (wX49_span_178 post x1 x2_47 f_at_53 f_fault_49 f_spanMonths_50 f_spanMillis_51)) ∧ (¬ r_52 = 0 → (wpX49_clock (fun (f_at_71 : Int) (f_fault_72 : Int) (f_spanMillis_73 : Int) => (wX49_span_178 post x1 1 f_at_71 f_fault_72 f_spanMonths_50 f_spanMillis_73)) tp sz f_at_53 f_fault_49 f_spanMillis_51))))) tp sz f_at_48 f_fault_49 84) tp sz fu 0 0 f_at_3 f_fault_4 0 0))) tp sz a (-1) 80 := by
  have B : ∀ F, 0 ≤ F → (∀ a one two sm sl, post a F one two sm sl) → ∀ x2 a mo mi, dvSd mo mi → wX49_span_178 post x1 x2 a F mo mi := fun F hF b x2 a mo mi hs => T49_s178 (G := F) hs (Or.inr hF) (by rw [if_pos hF]) (b _ _ _ _ _)
  have z0 : dvSd 0 0 := by unfold dvSd; decide
  -- the end, without a fault so far
  have fin : ∀ so a mo mi, (so = 0 ∨ so = 1) → dvG sz a → dvSd mo mi → R = dvSe neg so a mo mi → wX49_span_178 post x1 so a (-1) mo mi := fun so a mo mi hso Ga hs e => by
    unfold dvSe at e
    have h2 := hs
    unfold dvSd at h2
    by_cases s0 : so = 0
    · rw [if_pos s0] at e
      rw [e] at bad
      exact T49_s178 (G := a) hs (Or.inl rfl) (by rw [if_neg (by decide), if_pos s0]) (bad Ga.1 _ _ _ _ _)
    · rw [if_neg s0] at e
      refine T49_s178 (G := -1) hs (Or.inl rfl) (by rw [if_neg (by decide), if_neg s0]) ?_
      by_cases ng : neg
      · rw [if_pos ng] at e
        rw [e] at ok
        have x0 : ¬ x1 = 0 := fun q => (hx.mp q) ng
        rw [if_neg x0, if_neg x0]
        exact ok rfl Ga (by dsimp only; omega) (by dsimp only; omega) _ _
      · rw [if_neg ng] at e
        rw [e] at ok
        have x0 : x1 = 0 := hx.mpr ng
        rw [if_pos x0, if_pos x0]
        exact ok rfl Ga (by dsimp only; omega) (by dsimp only; omega) _ _
  unfold dvS1 at eR
  refine T49_want h.a (fun q => by omega) (fun _ e1 => ?_) (fun _ e1 => ?_)
  · rw [if_neg (fun q => q e1)] at eR
    have G1 := dvG_w h e1 (by decide)
    refine ⟨5, T49_sp 4 0 (a + 1) 0 0 0 (by decide) (by decide) (by decide) G1 (by decide) (by decide) (Or.inl rfl) (fun e2 G2 s2 so2 => ?_) (fun e2 so' a' mo' mi' A' s' => ?_)⟩
    · rw [if_neg (by omega)] at eR
      generalize (dvSp tp sz 4 0 (a + 1) 0 0 0).2.1 = a1 at *
      generalize (dvSp tp sz 4 0 (a + 1) 0 0 0).2.2.1 = mo at *
      generalize (dvSp tp sz 4 0 (a + 1) 0 0 0).2.2.2.1 = mi at *
      generalize (dvSp tp sz 4 0 (a + 1) 0 0 0).2.2.2.2 = so at *
      have s3 := s2
      unfold dvSb at s3
      refine T49_takes G2.a (fun q => by omega) (fun _ e3 => ⟨fun q => absurd q (by decide), fun _ => ?_⟩) (fun _ e3 => ⟨fun _ => ?_, fun q => absurd rfl q⟩)
      · rw [if_pos e3] at eR
        have G3 := dvG_w G2 e3 (by decide)
        unfold wpX49_clock
        refine ⟨5, T49_ck (post := fun f_at_71 f_fault_72 f_spanMillis_73 => wX49_span_178 post x1 1 f_at_71 f_fault_72 mo f_spanMillis_73) 4 0 (a1 + 1) mi (by decide) (by decide) (by decide) G3 (by omega) (fun e4 G4 mb => ?_) (fun e4 a' m A' mb => ?_)⟩
        · rw [if_neg (by omega)] at eR
          exact fin 1 _ mo _ (Or.inr rfl) G4 ⟨s3.1, mb⟩ eR
        · rw [if_pos e4] at eR
          rw [eR] at bad
          exact B _ e4 (bad e4) _ _ _ _ ⟨s3.1, mb⟩
      · rw [if_neg e3] at eR
        exact fin so a1 mo mi so2 G2 s2.d eR
    · rw [if_pos e2] at eR
      rw [eR] at bad
      exact T49_takesX A' e2 ⟨fun _ => B _ e2 (bad e2) _ _ _ _ s'.d, fun q => absurd rfl q⟩
  · rw [if_pos e1] at eR
    rw [eR] at bad
    have b := bad h.1
    exact ⟨1, T49_s27X h.1 (T49_takesX h.a h.1 ⟨fun _ => B _ h.1 b _ _ _ _ z0, fun q => absurd rfl q⟩)⟩
end
end

/-! DatatypeValues, the reference (X49): rows of bytes; a tape is read -/
def dvHv (b : Int) : Int := if 48 ≤ b ∧ b ≤ 57 then b - 48 else if 97 ≤ b ∧ b ≤ 102 then b - 97 + 10 else if 65 ≤ b ∧ b ≤ 70 then b - 65 + 10 else -1
/-- pairs of hexadecimal digits: fault, place, how many, bytes -/
def dvHx (tp : Int → Int) (sz : Int) : Nat → Int → Int → (Int → Int) → Int × Int × Int × (Int → Int)
  | 0, a, n, row => (-1, a, n, row)
  | f + 1, a, n, row => if sz ≤ a then (-1, a, n, row) else if 20 ≤ n then (a, 0, 0, row) else if dvHv (dvH tp sz a) < 0 then (a, 0, 0, row) else if dvHv (dvH tp sz (a + 1)) < 0 then (a + 1, 0, 0, row) else dvHx tp sz f (a + 2) (n + 1) (updI row n (16 * dvHv (dvH tp sz a) + dvHv (dvH tp sz (a + 1))))
def dvSx (b : Int) : Int := if 65 ≤ b ∧ b ≤ 90 then b - 65 else if 97 ≤ b ∧ b ≤ 122 then b - 97 + 26 else if 48 ≤ b ∧ b ≤ 57 then b - 48 + 52 else if b = 43 then 62 else if b = 47 then 63 else -1
/-- fours of letters -/
def dvBs (tp : Int → Int) (sz : Int) : Nat → Int → Int → (Int → Int) → Int × Int × Int × (Int → Int)
  | 0, a, n, row => (-1, a, n, row)
  | f + 1, a, n, row => if sz ≤ a then (-1, a, n, row) else if dvSx (dvH tp sz a) < 0 then (a, 0, 0, row) else if dvSx (dvH tp sz (a + 1)) < 0 then (a + 1, 0, 0, row) else
      if dvH tp sz (a + 2) = 61 then (if ¬ dvSx (dvH tp sz (a + 1)) % 16 = 0 then (a + 2, 0, 0, row) else if dvH tp sz (a + 3) = 61 then (-1, a + 4, n + 1, updI row n (4 * dvSx (dvH tp sz a) + dvSx (dvH tp sz (a + 1)) / 16)) else (a + 3, 0, 0, row))
      else if dvSx (dvH tp sz (a + 2)) < 0 then (a + 2, 0, 0, row) else if ¬ (n + 2 < 20 ∨ dvSx (dvH tp sz (a + 2)) % 4 = 0) then (a + 2, 0, 0, row) else
      if dvH tp sz (a + 3) = 61 then (if dvSx (dvH tp sz (a + 2)) % 4 = 0 then (-1, a + 4, n + 2, updI (updI row n (4 * dvSx (dvH tp sz a) + dvSx (dvH tp sz (a + 1)) / 16)) (n + 1) (dvSx (dvH tp sz (a + 1)) % 16 * 16 + dvSx (dvH tp sz (a + 2)) / 4)) else (a + 3, 0, 0, row))
      else if 20 ≤ n + 2 then (a + 3, 0, 0, row) else if dvSx (dvH tp sz (a + 3)) < 0 then (a + 3, 0, 0, row) else
      dvBs tp sz f (a + 4) (n + 3) (updI (updI (updI row n (4 * dvSx (dvH tp sz a) + dvSx (dvH tp sz (a + 1)) / 16)) (n + 1) (dvSx (dvH tp sz (a + 1)) % 16 * 16 + dvSx (dvH tp sz (a + 2)) / 4)) (n + 2) (dvSx (dvH tp sz (a + 2)) % 4 * 64 + dvSx (dvH tp sz (a + 3))))
section
variable {tp : Int → Int} {sz at_ F b x y v w n : Int} {row row2 : Int → Int}
theorem T49_span {post : Int → Int → Int → Int → Int → Int → Prop} (h : dvG sz at_) (ok : (dvSn tp sz at_).1 = -1 → dvG sz (dvSn tp sz at_).2.1 → (-1000000000 < (dvSn tp sz at_).2.2.1 ∧ (dvSn tp sz at_).2.2.1 < 1000000000) → (-1000000000000000 < (dvSn tp sz at_).2.2.2 ∧ (dvSn tp sz at_).2.2.2 < 1000000000000000) → ∀ sm sl, post (dvSn tp sz at_).2.1 (-1) (dvSn tp sz at_).2.2.1 (dvSn tp sz at_).2.2.2 sm sl) (bad : 0 ≤ (dvSn tp sz at_).1 → ∀ a one two sm sl, post a (dvSn tp sz at_).1 one two sm sl) : wpX49_span post tp sz at_ (-1) := by
  unfold wpX49_span
  refine T49_takes h.a (fun q => by omega) (fun _ e1 => ?_) (fun _ e1 => ?_)
  · exact T49_s1 (x1 := 1) (neg := dvH tp sz at_ = 45) ⟨fun q => absurd q (by decide), fun q => absurd e1 q⟩ (dvG_w h e1 (by decide)) (dvSn tp sz at_) (by unfold dvSn; rw [if_pos e1]) ok bad
  · exact T49_s1 (x1 := 0) (neg := dvH tp sz at_ = 45) ⟨fun _ => e1, fun _ => rfl⟩ h (dvSn tp sz at_) (by unfold dvSn; rw [if_neg e1]) ok bad
theorem dvHv_b (hT : dvT tp) : -1 ≤ dvHv (dvH tp sz at_) ∧ dvHv (dvH tp sz at_) ≤ 15 := by
  unfold dvHv
  split
  · omega
  · split
    · omega
    · split <;> omega
theorem dvHv_h (h : ¬ dvHv (dvH tp sz at_) < 0) : at_ < sz := by
  refine dvH_s (tp := tp) (fun q => h ?_)
  rw [q]; decide
theorem dvSx_b : -1 ≤ dvSx b ∧ dvSx b ≤ 63 := by
  unfold dvSx
  split
  · omega
  · split
    · omega
    · split
      · omega
      · split
        · decide
        · split <;> decide
theorem dvSx_h (h : ¬ dvSx (dvH tp sz at_) < 0) : at_ < sz := by
  refine dvH_s (tp := tp) (fun q => h ?_)
  rw [q]; decide
/-- a digit, in the reference: always one place on -/
theorem T49_hexDigit {post : Int → Int → Int → Prop} {G : Int} (h : dvA sz at_) (hG : G = if 0 ≤ F then F else if dvHv (dvH tp sz at_) < 0 then at_ else F) (hp : post (dvHv (dvH tp sz at_)) (at_ + 1) G) : wpX49_hexDigit post tp sz at_ F := by
  have h2 := h
  unfold dvA at h2
  have fin : wX49_hexDigit_69 post (dvHv (dvH tp sz at_)) at_ F := by
    unfold wX49_hexDigit_69 wpX49_need
    refine ⟨fun z => ⟨fun q => ⟨by omega, fun a ea => ?_⟩, fun q => ⟨fun _ => ⟨by omega, fun a ea => ?_⟩, fun q => absurd rfl q⟩⟩, fun z => ⟨fun q => ⟨by omega, fun a ea => ?_⟩, fun q => ⟨fun q => absurd q (by decide), fun _ => ⟨by omega, fun a ea => ?_⟩⟩⟩⟩
    · rw [if_pos q] at hG; rw [hG] at hp; rw [ea]; exact hp
    · rw [if_neg q, if_pos z] at hG; rw [hG] at hp; rw [ea]; exact hp
    · rw [if_pos q] at hG; rw [hG] at hp; rw [ea]; exact hp
    · rw [if_neg q, if_neg z] at hG; rw [hG] at hp; rw [ea]; exact hp
  unfold wpX49_hexDigit
  refine T49_here h ?_
  generalize dvH tp sz at_ = c at *
  have f46 : ¬ (48 ≤ c ∧ c ≤ 57) → ¬ (97 ≤ c ∧ c ≤ 102) → wX49_hexDigit_46 post c at_ F := fun n1 n2 => by
    unfold wX49_hexDigit_46
    unfold dvHv at fin
    rw [if_neg n1, if_neg n2] at fin
    refine ⟨fun z => ?_, fun z => ⟨fun z2 => ?_, fun z2 => ⟨by omega, ?_⟩⟩⟩
    · rw [if_neg (by omega)] at fin; exact fin
    · rw [if_neg (by omega)] at fin; exact fin
    · rw [if_pos (by omega)] at fin; exact fin
  have f24 : ¬ (48 ≤ c ∧ c ≤ 57) → wX49_hexDigit_24 post c at_ F := fun n1 => by
    unfold wX49_hexDigit_24
    refine ⟨fun z => f46 n1 (by omega), fun z => ⟨fun z2 => f46 n1 (by omega), fun z2 => ⟨by omega, ?_⟩⟩⟩
    unfold dvHv at fin
    rw [if_neg n1, if_pos (by omega)] at fin; exact fin
  refine ⟨fun z => f24 (by omega), fun z => ⟨fun z2 => f24 (by omega), fun z2 => ⟨by omega, ?_⟩⟩⟩
  unfold dvHv at fin
  rw [if_pos (by omega)] at fin; exact fin
theorem T49_sixBits {post : Int → Int → Int → Prop} {G : Int} (h : dvA sz at_) (hG : G = if 0 ≤ F then F else if dvSx (dvH tp sz at_) < 0 then at_ else F) (hp : post (dvSx (dvH tp sz at_)) (at_ + 1) G) : wpX49_sixBits post tp sz at_ F := by
  have h2 := h
  unfold dvA at h2
  have fin : wX49_sixBits_91 post (dvSx (dvH tp sz at_)) at_ F := by
    unfold wX49_sixBits_91 wpX49_need
    refine ⟨fun z => ⟨fun q => ⟨by omega, fun a ea => ?_⟩, fun q => ⟨fun _ => ⟨by omega, fun a ea => ?_⟩, fun q => absurd rfl q⟩⟩, fun z => ⟨fun q => ⟨by omega, fun a ea => ?_⟩, fun q => ⟨fun q => absurd q (by decide), fun _ => ⟨by omega, fun a ea => ?_⟩⟩⟩⟩
    · rw [if_pos q] at hG; rw [hG] at hp; rw [ea]; exact hp
    · rw [if_neg q, if_pos z] at hG; rw [hG] at hp; rw [ea]; exact hp
    · rw [if_pos q] at hG; rw [hG] at hp; rw [ea]; exact hp
    · rw [if_neg q, if_neg z] at hG; rw [hG] at hp; rw [ea]; exact hp
  unfold wpX49_sixBits
  refine T49_here h ?_
  generalize dvH tp sz at_ = c at *
  unfold dvSx at fin
  have low : ¬ (48 ≤ c ∧ c ≤ 57) → ¬ (97 ≤ c ∧ c ≤ 122) → ¬ (65 ≤ c ∧ c ≤ 90) → ((c = 43 → wX49_sixBits_91 post 62 at_ F) ∧ (¬ c = 43 → ((c = 47 → wX49_sixBits_91 post 63 at_ F) ∧ (¬ c = 47 → wX49_sixBits_91 post (-1) at_ F)))) := fun n1 n2 n3 => by
    rw [if_neg n3, if_neg n2, if_neg n1] at fin
    refine ⟨fun z => ?_, fun z => ⟨fun z2 => ?_, fun z2 => ?_⟩⟩
    · rw [if_pos z] at fin; exact fin
    · rw [if_neg z, if_pos z2] at fin; exact fin
    · rw [if_neg z, if_neg z2] at fin; exact fin
  have f46 : ¬ (97 ≤ c ∧ c ≤ 122) → ¬ (65 ≤ c ∧ c ≤ 90) → wX49_sixBits_46 post c at_ F := fun n2 n3 => by
    unfold wX49_sixBits_46
    refine ⟨fun z => low (by omega) n2 n3, fun z => ⟨fun z2 => low (by omega) n2 n3, fun z2 => ⟨by omega, ?_⟩⟩⟩
    rw [if_neg n3, if_neg n2, if_pos (by omega)] at fin; exact fin
  have f24 : ¬ (65 ≤ c ∧ c ≤ 90) → wX49_sixBits_24 post c at_ F := fun n3 => by
    unfold wX49_sixBits_24
    refine ⟨fun z => f46 (by omega) n3, fun z => ⟨fun z2 => f46 (by omega) n3, fun z2 => ⟨by omega, ?_⟩⟩⟩
    rw [if_neg n3, if_pos (by omega)] at fin; exact fin
  refine ⟨fun z => f24 (by omega), fun z => ⟨fun z2 => f24 (by omega), fun z2 => ⟨by omega, ?_⟩⟩⟩
  rw [if_pos (by omega)] at fin; exact fin
/-- bytes alike -/
def dvEq (n : Int) (r r2 : Int → Int) : Prop := ∀ k, 0 ≤ k → k < n → r k = r2 k
def dvBy (n : Int) (r : Int → Int) : Prop := ∀ k, 0 ≤ k → k < n → 0 ≤ r k ∧ r k < 256
theorem dvEq_u (h : dvEq n row row2) : dvEq (n + 1) (updI row n v) (updI row2 n v) := fun k k0 k1 => by
  by_cases e : k = n
  · rw [e, updI_s, updI_s]
  · rw [updI_n e, updI_n e]; exact h k k0 (by omega)
theorem dvBy_u (h : dvBy n row) (hv : 0 ≤ v ∧ v < 256) : dvBy (n + 1) (updI row n v) := fun k k0 k1 => by
  by_cases e : k = n
  · rw [e, updI_s]; exact hv
  · rw [updI_n e]; exact h k k0 (by omega)
theorem T49_hx0X {K : Int → Int → (Int → Int) → Int → Prop} {f : Nat} (hF : 0 ≤ F) (hp : K at_ F row n) : wX49_hex_0 K tp sz (f + 1) at_ F row n := by
  rw [wX49_hex_0]
  exact T49_goesOnB (fun q => by omega) (fun _ => hp)
theorem T49_h33 {K : Int → Int → (Int → Int) → Int → Prop} {y G : Int} (hT : dvT tp) (h : dvG sz at_) (hn : 0 ≤ n ∧ n ≤ 20) (hF : F = -1 ∨ 0 ≤ F) (hG : G = if 0 ≤ F then F else if y = 0 then at_ else if dvHv (dvH tp sz at_) < 0 then at_ else if dvHv (dvH tp sz (at_ + 1)) < 0 then at_ + 1 else -1) (hp : K (at_ + 2) G (updI row n (16 * dvHv (dvH tp sz at_) + dvHv (dvH tp sz (at_ + 1)))) (n + 1)) : wX49_hex_33 K y tp sz at_ F row n := by
  have h2 := h
  unfold dvG at h2
  have b1 := dvHv_b (sz := sz) (at_ := at_) hT
  have b2 := dvHv_b (sz := sz) (at_ := at_ + 1) hT
  have A1 : dvA sz (at_ + 1) := by unfold dvA; omega
  have main : ∀ F' : Int, (F' = if 0 ≤ F then F else if y = 0 then at_ else F) → wpX49_hexDigit (fun (r_6 : Int) (f_at_7 : Int) (f_fault_8 : Int) => (wpX49_hexDigit (fun (r_9 : Int) (f_at_10 : Int) (f_fault_11 : Int) => (((25 ≤ n → (zR ((16 * r_6) + r_9) ∧ (∀ v_17 : Int, v_17 = (16 * r_6) + r_9 → (∀ f_row_18 : Int → Int, f_row_18 = updI row 25 v_17 → (zR (n + 1) ∧ (∀ f_rowSize_22 : Int, f_rowSize_22 = n + 1 → (K f_at_10 f_fault_11 f_row_18 f_rowSize_22))))))) ∧ (¬ 25 ≤ n → (zR ((16 * r_6) + r_9) ∧ (∀ v_27 : Int, v_27 = (16 * r_6) + r_9 → ((0 ≤ n ∧ n < 30) ∧ (∀ f_row_28 : Int → Int, f_row_28 = updI row n v_27 → (zR (n + 1) ∧ (∀ f_rowSize_33 : Int, f_rowSize_33 = n + 1 → (K f_at_10 f_fault_11 f_row_28 f_rowSize_33))))))))))) tp sz f_at_7 f_fault_8)) tp sz at_ F' := fun F' eF => by
    have f0 : F' = -1 ∨ 0 ≤ F' := by
      rw [eF]
      split
      · omega
      · split <;> omega
    refine T49_hexDigit (G := if 0 ≤ F' then F' else if dvHv (dvH tp sz at_) < 0 then at_ else F') h.a rfl (T49_hexDigit (G := G) A1 ?_ ⟨fun q => by omega, fun _ => ⟨by omega, fun v ev => ⟨by omega, fun r er => ⟨by omega, fun m em => ?_⟩⟩⟩⟩)
    · rw [hG, eF]
      by_cases c1 : 0 ≤ F
      · rw [if_pos c1, if_pos c1, if_pos c1, if_pos c1]
      · rw [if_neg c1, if_neg c1]
        by_cases c2 : y = 0
        · rw [if_pos c2, if_pos c2, if_pos h2.1, if_pos h2.1]
        · rw [if_neg c2, if_neg c2, if_neg c1]
          by_cases c3 : dvHv (dvH tp sz at_) < 0
          · rw [if_pos c3, if_pos c3, if_pos h2.1]
          · rw [if_neg c3, if_neg c3, if_neg c1]
            split
            · rfl
            · omega
    · rw [er, ev, em, show at_ + 1 + 1 = at_ + 2 by omega]; exact hp
  unfold wX49_hex_33
  refine ⟨fun z => main F (by rw [if_pos z]), fun z => ⟨fun z2 => main at_ (by rw [if_neg z, if_pos z2]), fun z2 => main F (by rw [if_neg z, if_neg z2])⟩⟩
theorem T49_hx {K : Int → Int → (Int → Int) → Int → Prop} (hT : dvT tp) : ∀ (f : Nat) (a n : Int) (row row2 : Int → Int), dvG sz a → (0 ≤ n ∧ n ≤ 20) → 64 < a + 2 * f → dvEq n row row2 → dvBy n row2 →
    ((dvHx tp sz f a n row2).1 = -1 → dvG sz (dvHx tp sz f a n row2).2.1 → (0 ≤ (dvHx tp sz f a n row2).2.2.1 ∧ (dvHx tp sz f a n row2).2.2.1 ≤ 20) → ∀ row', dvEq (dvHx tp sz f a n row2).2.2.1 row' (dvHx tp sz f a n row2).2.2.2 → dvBy (dvHx tp sz f a n row2).2.2.1 (dvHx tp sz f a n row2).2.2.2 → K (dvHx tp sz f a n row2).2.1 (-1) row' (dvHx tp sz f a n row2).2.2.1) → (0 ≤ (dvHx tp sz f a n row2).1 → ∀ a' row' n', K a' (dvHx tp sz f a n row2).1 row' n') → wX49_hex_0 K tp sz (f + 1) a (-1) row n
  | 0, a, n, row, row2, G, hn, hf, he, hb, ok, bad => by have := G.2.1; omega
  | f + 1, a, n, row, row2, G, hn, hf, he, hb, ok, bad => by
    have b1 := dvHv_b (sz := sz) (at_ := a) hT
    have b2 := dvHv_b (sz := sz) (at_ := a + 1) hT
    rw [wX49_hex_0]
    unfold dvHx at ok bad
    refine T49_goesOnB (fun _ => ⟨fun z => ?_, fun z => ⟨fun z2 => ?_, fun z2 => ?_⟩⟩) (fun q => by omega)
    · rw [if_pos z] at ok; exact ok rfl G hn _ he hb
    · rw [if_neg z, if_pos z2] at bad
      exact T49_h33 hT G hn (Or.inl rfl) (G := a) (by rw [if_neg (by decide), if_pos rfl]) (T49_hx0X G.1 (bad G.1 _ _ _))
    · rw [if_neg z, if_neg z2] at ok bad
      by_cases c1 : dvHv (dvH tp sz a) < 0
      · rw [if_pos c1] at bad
        exact T49_h33 hT G hn (Or.inl rfl) (G := a) (by rw [if_neg (by decide), if_neg (by decide), if_pos c1]) (T49_hx0X G.1 (bad G.1 _ _ _))
      · rw [if_neg c1] at ok bad
        by_cases c2 : dvHv (dvH tp sz (a + 1)) < 0
        · rw [if_pos c2] at bad
          have a1 : 0 ≤ a + 1 := by have := G.1; omega
          exact T49_h33 hT G hn (Or.inl rfl) (G := a + 1) (by rw [if_neg (by decide), if_neg (by decide), if_neg c1, if_pos c2]) (T49_hx0X a1 (bad a1 _ _ _))
        · rw [if_neg c2] at ok bad
          have l2 := dvHv_h c2
          have G2 : dvG sz (a + 2) := ⟨by have := G.1; omega, by have := G.2.2; omega, G.2.2⟩
          exact T49_h33 hT G hn (Or.inl rfl) (G := -1) (by rw [if_neg (by decide), if_neg (by decide), if_neg c1, if_neg c2]) (T49_hx hT f (a + 2) (n + 1) _ _ G2 (by omega) (by omega) (dvEq_u he) (dvBy_u hb (by omega)) ok bad)
theorem T49_hex {post : Int → Int → (Int → Int) → Int → Prop} (hT : dvT tp) (h : dvG sz 0) (ok : (dvHx tp sz 33 0 0 (fun _ => 0)).1 = -1 → dvG sz (dvHx tp sz 33 0 0 (fun _ => 0)).2.1 → (0 ≤ (dvHx tp sz 33 0 0 (fun _ => 0)).2.2.1 ∧ (dvHx tp sz 33 0 0 (fun _ => 0)).2.2.1 ≤ 20) → ∀ row', dvEq (dvHx tp sz 33 0 0 (fun _ => 0)).2.2.1 row' (dvHx tp sz 33 0 0 (fun _ => 0)).2.2.2 → dvBy (dvHx tp sz 33 0 0 (fun _ => 0)).2.2.1 (dvHx tp sz 33 0 0 (fun _ => 0)).2.2.2 → post (dvHx tp sz 33 0 0 (fun _ => 0)).2.1 (-1) row' (dvHx tp sz 33 0 0 (fun _ => 0)).2.2.1) (bad : 0 ≤ (dvHx tp sz 33 0 0 (fun _ => 0)).1 → ∀ a' row' n', post a' (dvHx tp sz 33 0 0 (fun _ => 0)).1 row' n') : wpX49_hex post tp sz 0 (-1) row 0 := by
  unfold wpX49_hex
  exact ⟨34, T49_hx hT 33 0 0 row (fun _ => 0) h (by decide) (by decide) (fun k k0 k1 => by omega) (fun k k0 k1 => by omega) ok bad⟩
end

/-! DatatypeValues, the reference (X49): letters in fours; a tape is read -/
section
variable {tp : Int → Int} {sz at_ F b x y v w n : Int} {row row2 : Int → Int}
theorem dv_tq (h : -1 ≤ v ∧ v ≤ 63) : (0 ≤ Int.tdiv v 16 ∧ Int.tdiv v 16 ≤ 3) ∧ (-1 ≤ Int.tmod v 16 ∧ Int.tmod v 16 ≤ 15) ∧ (0 ≤ Int.tdiv v 4 ∧ Int.tdiv v 4 ≤ 15) ∧ (-1 ≤ Int.tmod v 4 ∧ Int.tmod v 4 ≤ 3) ∧ (0 ≤ v → Int.tdiv v 16 = v / 16 ∧ Int.tmod v 16 = v % 16 ∧ Int.tdiv v 4 = v / 4 ∧ Int.tmod v 4 = v % 4) := by
  by_cases c : v = -1
  · subst c
    exact ⟨by decide, by decide, by decide, by decide, fun q => absurd q (by decide)⟩
  · have p : 0 ≤ v := by omega
    rw [Int.tdiv_eq_ediv_of_nonneg p, Int.tdiv_eq_ediv_of_nonneg p, Int.tmod_eq_emod_of_nonneg p, Int.tmod_eq_emod_of_nonneg p]
    exact ⟨by omega, by omega, by omega, by omega, fun _ => ⟨rfl, rfl, rfl, rfl⟩⟩
section
variable {K : Int → Int → Int → (Int → Int) → Int → Prop} {x1 x4 y1 : Int}
theorem T49_b238X (hF : 0 ≤ F) (h : dvA sz at_) (hx : -1 ≤ x4 ∧ x4 ≤ 63) (hn : 0 ≤ n ∧ n ≤ 25) (B : ∀ x a r m, K x a F r m) : wX49_base_238 K x1 x4 y1 tp sz at_ F row n := by
  have q := dv_tq hx
  have s := dvSx_b (b := dvH tp sz at_)
  unfold wX49_base_238
  exact T49_needX hF (T49_sixBits (G := F) h (by rw [if_pos hF]) ⟨by omega, by omega, fun v ev => ⟨by omega, fun r er => ⟨by omega, fun m em => B _ _ _ _⟩⟩⟩)
theorem T49_b170X (hF : 0 ≤ F) (h : dvA sz at_) (hx : -1 ≤ x4 ∧ x4 ≤ 63) (hn : 0 ≤ n ∧ n ≤ 25) (B : ∀ x a r m, K x a F r m) : wX49_base_170 K x1 x4 y1 tp sz at_ F row n := by
  have q := dv_tq hx
  have h2 := h
  unfold dvA at h2
  unfold wX49_base_170
  exact ⟨by omega, T49_needX hF (T49_here h ⟨fun _ => ⟨by omega, fun _ => T49_needX hF ⟨by omega, fun a ea => B _ _ _ _⟩, fun _ => T49_needX hF ⟨by omega, fun a ea => B _ _ _ _⟩⟩, fun _ => ⟨fun _ => T49_b238X hF h hx hn B, fun _ => T49_b238X hF h hx hn B⟩⟩)⟩
theorem T49_b83X (hF : 0 ≤ F) (h : dvA sz (at_ + 1)) (ha : 0 ≤ at_) (B : ∀ x a r m, K x a F r m) : wX49_base_83 K y1 tp sz at_ F row n := by
  have h2 := h
  unfold dvA at h2
  unfold wX49_base_83
  exact T49_needX hF ⟨by omega, fun a ea => T49_wantX (by rw [ea]; exact h) hF (B _ _ _ _)⟩
/-- behind the second letter -/
def dvW3 (K : Int → Int → Int → (Int → Int) → Int → Prop) (x1 r_8 : Int) (f_tape : Int → Int) (f_size f_at_9 f_fault_10 : Int) (f_row_18 : Int → Int) (f_rowSize_23 : Int) : Prop := wpX49_here (fun (r_24 : Int) => (((r_24 = 61 → ((((Int.tmod r_8 16) = 0 → (wX49_base_83 K 1 f_tape f_size f_at_9 f_fault_10 f_row_18 f_rowSize_23)) ∧ (¬ (Int.tmod r_8 16) = 0 → (wX49_base_83 K 0 f_tape f_size f_at_9 f_fault_10 f_row_18 f_rowSize_23))))) ∧ (¬ r_24 = 61 → (wpX49_sixBits (fun (r_26 : Int) (f_at_27 : Int) (f_fault_28 : Int) => (zR (Int.tdiv r_26 4) ∧ (zR (((Int.tmod r_8 16) * 16) + (Int.tdiv r_26 4)) ∧ (∀ v_36 : Int, v_36 = ((Int.tmod r_8 16) * 16) + (Int.tdiv r_26 4) → ((0 ≤ f_rowSize_23 ∧ f_rowSize_23 < 30) ∧ (∀ f_row_37 : Int → Int, f_row_37 = updI f_row_18 f_rowSize_23 v_36 → (zR (f_rowSize_23 + 1) ∧ (∀ f_rowSize_42 : Int, f_rowSize_42 = f_rowSize_23 + 1 → (((f_rowSize_42 < 20 → (wX49_base_170 K x1 r_26 1 f_tape f_size f_at_27 f_fault_28 f_row_37 f_rowSize_42)) ∧ (¬ f_rowSize_42 < 20 → ((((Int.tmod r_26 4) = 0 → (wX49_base_170 K x1 r_26 1 f_tape f_size f_at_27 f_fault_28 f_row_37 f_rowSize_42)) ∧ (¬ (Int.tmod r_26 4) = 0 → (wX49_base_170 K x1 r_26 0 f_tape f_size f_at_27 f_fault_28 f_row_37 f_rowSize_42))))))))))))))) f_tape f_size f_at_9 f_fault_10))))) f_tape f_size f_at_9
theorem T49_b3X {x8 : Int} (hF : 0 ≤ F) (h : 0 ≤ at_ ∧ at_ ≤ 68 ∧ sz ≤ 64) (hx : -1 ≤ x8 ∧ x8 ≤ 63) (hn : 0 ≤ n ∧ n ≤ 24) (B : ∀ x a r m, K x a F r m) : dvW3 K x1 x8 tp sz at_ F row n := by
  have A0 : dvA sz at_ := ⟨h.1, by omega, h.2.2⟩
  have A1 : dvA sz (at_ + 1) := ⟨by omega, by omega, h.2.2⟩
  have q := dv_tq hx
  have s := dvSx_b (b := dvH tp sz at_)
  have q2 := dv_tq s
  unfold dvW3
  refine T49_here A0 ⟨fun _ => ⟨fun _ => T49_b83X hF A1 h.1 B, fun _ => T49_b83X hF A1 h.1 B⟩, fun _ => T49_sixBits (G := F) A0 (by rw [if_pos hF]) ⟨by omega, by omega, fun v ev => ⟨by omega, fun r er => ⟨by omega, fun m em => ?_⟩⟩⟩⟩
  have E : ∀ y1, wX49_base_170 K x1 (dvSx (dvH tp sz at_)) y1 tp sz (at_ + 1) F r m := fun y1 => T49_b170X hF A1 s (by omega) B
  exact ⟨fun _ => E 1, fun _ => ⟨fun _ => E 1, fun _ => E 0⟩⟩
end
theorem T49_b2X {K' : Int → Int → (Int → Int) → Int → Prop} {f : Nat} {x : Int} (hF : 0 ≤ F) (hp : K' at_ F row n) : wX49_base_2 K' tp sz (f + 1) x at_ F row n := by
  rw [wX49_base_2]
  exact T49_goesOnB (fun q => by omega) (fun _ => hp)
theorem T49_b2L {K' : Int → Int → (Int → Int) → Int → Prop} {f : Nat} (hp : K' at_ (-1) row n) : wX49_base_2 K' tp sz (f + 1) 1 at_ (-1) row n := by
  rw [wX49_base_2]
  exact T49_goesOnB (fun _ => ⟨fun _ => hp, fun _ => ⟨fun q => absurd q (by decide), fun _ => hp⟩⟩) (fun q => by omega)
theorem T49_bs {K : Int → Int → (Int → Int) → Int → Prop} : ∀ (f : Nat) (a n : Int) (row row2 : Int → Int), dvG sz a → (0 ≤ n ∧ n ≤ 18 ∧ n % 3 = 0) → 64 < a + 4 * f → dvEq n row row2 → dvBy n row2 →
    ((dvBs tp sz f a n row2).1 = -1 → dvA sz (dvBs tp sz f a n row2).2.1 → (0 ≤ (dvBs tp sz f a n row2).2.2.1 ∧ (dvBs tp sz f a n row2).2.2.1 ≤ 20) → ∀ row', dvEq (dvBs tp sz f a n row2).2.2.1 row' (dvBs tp sz f a n row2).2.2.2 → dvBy (dvBs tp sz f a n row2).2.2.1 (dvBs tp sz f a n row2).2.2.2 → K (dvBs tp sz f a n row2).2.1 (-1) row' (dvBs tp sz f a n row2).2.2.1) → (0 ≤ (dvBs tp sz f a n row2).1 → ∀ a' row' n', K a' (dvBs tp sz f a n row2).1 row' n') → wX49_base_2 K tp sz (f + 1) 0 a (-1) row n
  | 0, a, n, row, row2, G, hn, hf, he, hb, ok, bad => by have := G.2.1; omega
  | f + 1, a, n, row, row2, G, hn, hf, he, hb, ok, bad => by
    have g := G
    unfold dvG at g
    have s0 := dvSx_b (b := dvH tp sz a)
    have s1 := dvSx_b (b := dvH tp sz (a + 1))
    have s2 := dvSx_b (b := dvH tp sz (a + 2))
    have s3 := dvSx_b (b := dvH tp sz (a + 3))
    have q1 := dv_tq s1
    have q2 := dv_tq s2
    have A : ∀ j : Int, 0 ≤ j → j ≤ 6 → dvA sz (a + j) := fun j j0 j1 => ⟨by omega, by omega, g.2.2⟩
    rw [wX49_base_2]
    unfold dvBs at ok bad
    refine T49_goesOnB (fun _ => ⟨fun z => ?_, fun z => ⟨fun _ => ?_, fun q => absurd rfl q⟩⟩) (fun q => by omega)
    · rw [if_pos z] at ok; exact ok rfl G.a (by dsimp only; omega) _ he hb
    rw [if_neg z] at ok bad
    -- a fault at a place
    have X3 : ∀ F, 0 ≤ F → (∀ a' row' n', K a' F row' n') → dvW3 (wX49_base_2 K tp sz (f + 1)) 0 (dvSx (dvH tp sz (a + 1))) tp sz (a + 2) F (updI row n (4 * dvSx (dvH tp sz a) + Int.tdiv (dvSx (dvH tp sz (a + 1))) 16)) (n + 1) := fun F hF B =>
      T49_b3X hF ⟨by omega, by omega, g.2.2⟩ s1 (by omega) (fun x a r m => T49_b2X hF (B _ _ _))
    have key : ∀ F1, (F1 = if dvSx (dvH tp sz a) < 0 then a else -1) → ∀ F2, (F2 = if 0 ≤ F1 then F1 else if dvSx (dvH tp sz (a + 1)) < 0 then a + 1 else F1) → dvW3 (wX49_base_2 K tp sz (f + 1)) 0 (dvSx (dvH tp sz (a + 1))) tp sz (a + 2) F2 (updI row n (4 * dvSx (dvH tp sz a) + Int.tdiv (dvSx (dvH tp sz (a + 1))) 16)) (n + 1) := fun F1 e1 F2 e2 => by
      by_cases c0 : dvSx (dvH tp sz a) < 0
      · rw [if_pos c0] at e1 bad
        rw [e1, if_pos g.1] at e2
        rw [e2]; exact X3 a g.1 (bad g.1)
      rw [if_neg c0] at e1 ok bad
      rw [e1, if_neg (by decide)] at e2
      by_cases c1 : dvSx (dvH tp sz (a + 1)) < 0
      · rw [if_pos c1] at e2 bad
        rw [e2]; exact X3 (a + 1) (by omega) (bad (by show 0 ≤ a + 1; omega))
      rw [if_neg c1] at e2 ok bad
      rw [e2]
      have r1 := q1.2.2.2.2 (by omega)
      rw [r1.1]
      unfold dvW3
      rw [r1.2.1]
      refine T49_here (A 2 (by decide) (by decide)) ⟨fun c2 => ?_, fun c2 => ?_⟩
      · rw [if_pos c2] at ok bad
        refine ⟨fun m0 => ?_, fun m0 => ?_⟩
        · rw [if_neg (fun q => q m0)] at ok bad
          unfold wX49_base_83
          refine ⟨fun q => absurd q (by decide), fun _ => ⟨fun q => absurd q (by decide), fun _ => ⟨by omega, fun a3 ea3 => ?_⟩⟩⟩
          rw [ea3, show a + 2 + 1 = a + 3 by omega]
          refine T49_want (A 3 (by decide) (by decide)) (fun q => by omega) (fun _ c3 => ?_) (fun _ c3 => ?_)
          · rw [if_pos c3] at ok
            rw [show a + 3 + 1 = a + 4 by omega]
            exact T49_b2L (ok rfl (A 4 (by decide) (by decide)) (by dsimp only; omega) _ (dvEq_u he) (dvBy_u hb (by omega)))
          · rw [if_neg c3] at bad
            exact T49_b2X (by omega) (bad (by show 0 ≤ a + 3; omega) _ _ _)
        · rw [if_pos m0] at bad
          unfold wX49_base_83
          refine ⟨fun q => absurd q (by decide), fun _ => ⟨fun _ => ⟨by omega, fun a3 ea3 => ?_⟩, fun q => absurd rfl q⟩⟩
          rw [ea3, show a + 2 + 1 = a + 3 by omega]
          have p2 : 0 ≤ a + 2 := by omega
          exact T49_wantX (A 3 (by decide) (by decide)) p2 (T49_b2X p2 (bad p2 _ _ _))
      · rw [if_neg c2] at ok bad
        refine T49_sixBits (G := if dvSx (dvH tp sz (a + 2)) < 0 then a + 2 else -1) (A 2 (by decide) (by decide)) (by rw [if_neg (show ¬ (0 : Int) ≤ -1 by decide)]) ⟨by omega, by omega, fun v ev => ⟨by omega, fun r er => ⟨by omega, fun m em => ?_⟩⟩⟩
        have X170 : ∀ F y1, 0 ≤ F → (∀ a' row' n', K a' F row' n') → wX49_base_170 (wX49_base_2 K tp sz (f + 1)) 0 (dvSx (dvH tp sz (a + 2))) y1 tp sz (a + 2 + 1) F r m := fun F y1 hF B => T49_b170X hF (by rw [show a + 2 + 1 = a + 3 by omega]; exact A 3 (by decide) (by decide)) s2 (by omega) (fun x a r m => T49_b2X hF (B _ _ _))
        by_cases c3 : dvSx (dvH tp sz (a + 2)) < 0
        · rw [if_pos c3] at bad ⊢
          have p2 : 0 ≤ a + 2 := by omega
          exact ⟨fun _ => X170 _ 1 p2 (bad p2), fun _ => ⟨fun _ => X170 _ 1 p2 (bad p2), fun _ => X170 _ 0 p2 (bad p2)⟩⟩
        rw [if_neg c3] at ok bad ⊢
        have r2 := q2.2.2.2.2 (by omega)
        rw [r2.2.2.1] at ev
        rw [r2.2.2.2]
        -- the third letter is right, whether its need is met
        have good : (n + 2 < 20 ∨ dvSx (dvH tp sz (a + 2)) % 4 = 0) → wX49_base_170 (wX49_base_2 K tp sz (f + 1)) 0 (dvSx (dvH tp sz (a + 2))) 1 tp sz (a + 2 + 1) (-1) r m := fun w => by
          rw [if_neg (fun q => q w)] at ok bad
          unfold wX49_base_170
          rw [r2.2.2.2, show a + 2 + 1 = a + 3 by omega]
          refine ⟨by omega, fun q => absurd q (by decide), fun _ => ⟨fun q => absurd q (by decide), fun _ => T49_here (A 3 (by decide) (by decide)) ⟨fun c4 => ⟨by omega, fun m0 => ?_, fun m0 => ?_⟩, fun c4 => ?_⟩⟩⟩
          · rw [if_pos c4, if_pos m0] at ok
            refine ⟨fun q => absurd q (by decide), fun _ => ⟨fun q => absurd q (by decide), fun _ => ⟨by omega, fun a4 ea4 => ?_⟩⟩⟩
            rw [ea4, show a + 3 + 1 = a + 4 by omega, er, ev, em, show n + 1 + 1 = n + 2 by omega]
            refine T49_b2L (ok rfl (A 4 (by decide) (by decide)) (by dsimp only; omega) _ ?_ ?_)
            · have := dvEq_u (v := dvSx (dvH tp sz (a + 1)) % 16 * 16 + dvSx (dvH tp sz (a + 2)) / 4) (dvEq_u (v := 4 * dvSx (dvH tp sz a) + dvSx (dvH tp sz (a + 1)) / 16) he)
              rw [show n + 1 + 1 = n + 2 by omega] at this; exact this
            · have := dvBy_u (v := dvSx (dvH tp sz (a + 1)) % 16 * 16 + dvSx (dvH tp sz (a + 2)) / 4) (dvBy_u (v := 4 * dvSx (dvH tp sz a) + dvSx (dvH tp sz (a + 1)) / 16) hb (by omega)) (by omega)
              rw [show n + 1 + 1 = n + 2 by omega] at this; exact this
          · rw [if_pos c4, if_neg m0] at bad
            refine ⟨fun q => absurd q (by decide), fun _ => ⟨fun _ => ⟨by omega, fun a4 ea4 => ?_⟩, fun q => absurd rfl q⟩⟩
            have p3 : 0 ≤ a + 3 := by omega
            exact T49_b2X p3 (bad p3 _ _ _)
          · rw [if_neg c4] at ok bad
            rw [em, show n + 1 + 1 = n + 2 by omega]
            refine ⟨fun c5 => ?_, fun c5 => ?_⟩
            · rw [if_pos c5] at bad
              have p3 : 0 ≤ a + 3 := by omega
              unfold wX49_base_238
              refine ⟨fun q => absurd q (by decide), fun _ => ⟨fun _ => ?_, fun q => absurd rfl q⟩⟩
              refine T49_sixBits (G := a + 3) (A 3 (by decide) (by decide)) (by rw [if_pos p3]) ⟨by omega, by omega, fun v3 ev3 => ⟨by omega, fun r3 er3 => ⟨by omega, fun m3 em3 => T49_b2X p3 (bad p3 _ _ _)⟩⟩⟩
            · rw [if_neg c5] at ok bad
              unfold wX49_base_238
              refine ⟨fun q => absurd q (by decide), fun _ => ⟨fun q => absurd q (by decide), fun _ => ?_⟩⟩
              rw [r2.2.2.2]
              refine T49_sixBits (G := if dvSx (dvH tp sz (a + 3)) < 0 then a + 3 else -1) (A 3 (by decide) (by decide)) (by rw [if_neg (show ¬ (0 : Int) ≤ -1 by decide)]) ⟨by omega, by omega, fun v3 ev3 => ⟨by omega, fun r3 er3 => ⟨by omega, fun m3 em3 => ?_⟩⟩⟩
              by_cases c6 : dvSx (dvH tp sz (a + 3)) < 0
              · rw [if_pos c6] at bad ⊢
                have p3 : 0 ≤ a + 3 := by omega
                exact T49_b2X p3 (bad p3 _ _ _)
              · rw [if_neg c6] at ok bad ⊢
                have l3 := dvSx_h c6
                have G4 : dvG sz (a + 4) := ⟨by omega, by omega, g.2.2⟩
                rw [er3, ev3, em3, er, ev, show a + 3 + 1 = a + 4 by omega, show n + 2 + 1 = n + 3 by omega]
                refine T49_bs f (a + 4) (n + 3) _ _ G4 (by omega) (by omega) ?_ ?_ ok bad
                · have := dvEq_u (v := dvSx (dvH tp sz (a + 2)) % 4 * 64 + dvSx (dvH tp sz (a + 3))) (dvEq_u (v := dvSx (dvH tp sz (a + 1)) % 16 * 16 + dvSx (dvH tp sz (a + 2)) / 4) (dvEq_u (v := 4 * dvSx (dvH tp sz a) + dvSx (dvH tp sz (a + 1)) / 16) he))
                  rw [show n + 1 + 1 = n + 2 by omega, show n + 2 + 1 = n + 3 by omega] at this; exact this
                · have := dvBy_u (v := dvSx (dvH tp sz (a + 2)) % 4 * 64 + dvSx (dvH tp sz (a + 3))) (dvBy_u (v := dvSx (dvH tp sz (a + 1)) % 16 * 16 + dvSx (dvH tp sz (a + 2)) / 4) (dvBy_u (v := 4 * dvSx (dvH tp sz a) + dvSx (dvH tp sz (a + 1)) / 16) hb (by omega)) (by omega)) (by omega)
                  rw [show n + 1 + 1 = n + 2 by omega, show n + 2 + 1 = n + 3 by omega] at this; exact this
        have ill : ¬ (n + 2 < 20 ∨ dvSx (dvH tp sz (a + 2)) % 4 = 0) → wX49_base_170 (wX49_base_2 K tp sz (f + 1)) 0 (dvSx (dvH tp sz (a + 2))) 0 tp sz (a + 2 + 1) (-1) r m := fun w => by
          rw [if_pos w] at bad
          have p2 : 0 ≤ a + 2 := by omega
          have := X170 (a + 2) 1 p2 (bad p2)
          unfold wX49_base_170 at this ⊢
          refine ⟨this.1, fun q => absurd q (by decide), fun _ => ⟨fun _ => ?_, fun q => absurd rfl q⟩⟩
          have t := this.2.1 p2
          rw [show a + 2 + 1 - 1 = a + 2 by omega]
          exact t
        rw [em, show n + 1 + 1 = n + 2 by omega] at *
        exact ⟨fun l => good (Or.inl l), fun l => ⟨fun m0 => good (Or.inr m0), fun m0 => ill (fun w => w.elim l m0)⟩⟩
    refine T49_sixBits (G := if dvSx (dvH tp sz a) < 0 then a else -1) G.a (by rw [if_neg (show ¬ (0 : Int) ≤ -1 by decide)]) (T49_sixBits (G := if 0 ≤ (if dvSx (dvH tp sz a) < 0 then a else -1) then (if dvSx (dvH tp sz a) < 0 then a else -1) else if dvSx (dvH tp sz (a + 1)) < 0 then a + 1 else (if dvSx (dvH tp sz a) < 0 then a else -1)) (A 1 (by decide) (by decide)) rfl ⟨by omega, by omega, fun v ev => ⟨by omega, fun r er => ⟨by omega, fun m em => ?_⟩⟩⟩)
    rw [er, ev, em, show a + 1 + 1 = a + 2 by omega]
    exact key _ rfl _ rfl
theorem T49_base {post : Int → Int → (Int → Int) → Int → Prop} (h : dvG sz 0) (ok : (dvBs tp sz 17 0 0 (fun _ => 0)).1 = -1 → dvA sz (dvBs tp sz 17 0 0 (fun _ => 0)).2.1 → (0 ≤ (dvBs tp sz 17 0 0 (fun _ => 0)).2.2.1 ∧ (dvBs tp sz 17 0 0 (fun _ => 0)).2.2.1 ≤ 20) → ∀ row', dvEq (dvBs tp sz 17 0 0 (fun _ => 0)).2.2.1 row' (dvBs tp sz 17 0 0 (fun _ => 0)).2.2.2 → dvBy (dvBs tp sz 17 0 0 (fun _ => 0)).2.2.1 (dvBs tp sz 17 0 0 (fun _ => 0)).2.2.2 → post (dvBs tp sz 17 0 0 (fun _ => 0)).2.1 (-1) row' (dvBs tp sz 17 0 0 (fun _ => 0)).2.2.1) (bad : 0 ≤ (dvBs tp sz 17 0 0 (fun _ => 0)).1 → ∀ a' row' n', post a' (dvBs tp sz 17 0 0 (fun _ => 0)).1 row' n') : wpX49_base post tp sz 0 (-1) row 0 := by
  unfold wpX49_base
  exact ⟨18, T49_bs 17 0 0 row (fun _ => 0) h (by decide) (by decide) (fun k k0 k1 => by omega) (fun k k0 k1 => by omega) ok bad⟩
end

/-! DatatypeValues, the reference (X49): how far a fault's place may lie -/
def dvQ (N : Int) (r : Int × Int × Int) : Prop := r.1 ≤ N ∧ r.2.1 ≤ N
def dvQ4 (N : Int) (r : Int × Int × Int × Int) : Prop := r.1 ≤ N ∧ r.2.1 ≤ N
section
variable {tp : Int → Int} {sz N M A at_ least lo hi b : Int} {most : Nat} {r : Int × Int × Int}
theorem dvQ.up (h : dvQ N r) (hN : N ≤ M) : dvQ M r := ⟨by have := h.1; omega, by have := h.2; omega⟩
theorem dvQ_i {p : Prop} [Decidable p] {x y : Int × Int × Int} (h1 : p → dvQ N x) (h0 : ¬ p → dvQ N y) : dvQ N (if p then x else y) := by
  by_cases w : p
  · rw [if_pos w]; exact h1 w
  · rw [if_neg w]; exact h0 w
theorem dvQ4_i {p : Prop} [Decidable p] {x y : Int × Int × Int × Int} (h1 : p → dvQ4 N x) (h0 : ¬ p → dvQ4 N y) : dvQ4 N (if p then x else y) := by
  by_cases w : p
  · rw [if_pos w]; exact h1 w
  · rw [if_neg w]; exact h0 w
theorem dvQ_b {k : Int → Int → Int × Int × Int} (h : dvQ N r) (h0 : 0 ≤ M) (hM : N ≤ M) (hk : ∀ a v, a ≤ N → dvQ M (k a v)) : dvQ M (dvB r k) := dvQ_i (fun _ => ⟨by have := h.1; show r.1 ≤ M; omega, h0⟩) (fun _ => hk _ _ h.2)
theorem dvQ4_b {k : Int → Int → Int × Int × Int × Int} (h : dvQ N r) (h0 : 0 ≤ M) (hM : N ≤ M) (hk : ∀ a v, a ≤ N → dvQ4 M (k a v)) : dvQ4 M (dvB4 r k) := dvQ4_i (fun _ => ⟨by have := h.1; show r.1 ≤ M; omega, h0⟩) (fun _ => hk _ _ h.2)
theorem dvQ_dg (h : at_ ≤ A) (h0 : 0 ≤ A) (hN : A + most ≤ N) : dvQ N (dvDg tp sz least most at_) := by
  have s := (dvN_s (tp := tp) (sz := sz) (at_ := at_) (most := most)).1
  unfold dvQ dvDg
  dsimp only
  refine ⟨?_, by omega⟩
  split <;> omega
theorem dvQ_pr (h : at_ ≤ A) (h0 : 0 ≤ A) (hN : A + 2 ≤ N) : dvQ N (dvPr tp sz lo hi at_) := by
  have s := dvQ_dg (tp := tp) (sz := sz) (least := 2) (most := 2) (N := N) h h0 hN
  unfold dvPr
  exact dvQ_i (fun _ => s) (fun _ => dvQ_i (fun _ => s) (fun _ => ⟨by show at_ ≤ N; omega, s.2⟩))
theorem dvQ_wr (h : at_ ≤ A) (h0 : 0 ≤ A) (hN : A + 1 ≤ N) : dvQ N (dvWr tp sz b at_) := by
  unfold dvQ dvWr dvWt
  dsimp only
  refine ⟨?_, by omega⟩
  split <;> omega
theorem dvQ_dy (h : at_ ≤ 100) : dvQ 120 (dvDy tp sz at_) :=
  dvQ_b (N := 104) (dvQ_dg h (by decide) (by decide)) (by decide) (by decide) fun a1 y h1 => dvQ_i (fun _ => ⟨by show at_ ≤ 120; omega, by show (0 : Int) ≤ 120; decide⟩) fun _ =>
  dvQ_b (N := 105) (dvQ_wr h1 (by decide) (by decide)) (by decide) (by decide) fun a2 _ h2 => dvQ_b (N := 107) (dvQ_pr h2 (by decide) (by decide)) (by decide) (by decide) fun a3 m h3 =>
  dvQ_b (N := 108) (dvQ_wr h3 (by decide) (by decide)) (by decide) (by decide) fun a4 _ h4 => dvQ_b (N := 110) (dvQ_pr h4 (by decide) (by decide)) (by decide) (by decide) fun a5 d h5 => ⟨by show (-1 : Int) ≤ 120; decide, by show a5 ≤ 120; omega⟩
theorem dvQ_z1 {sg : Int} (h : at_ ≤ 201) : dvQ 220 (dvZ1 tp sz sg at_) :=
  dvQ_b (N := 203) (dvQ_pr h (by decide) (by decide)) (by decide) (by decide) fun a1 _ h1 => dvQ_b (N := 204) (dvQ_wr h1 (by decide) (by decide)) (by decide) (by decide) fun a2 _ h2 =>
  dvQ_b (N := 206) (dvQ_pr h2 (by decide) (by decide)) (by decide) (by decide) fun a3 m h3 => ⟨by show (-1 : Int) ≤ 220; decide, by show a3 ≤ 220; omega⟩
theorem dvQ_zn (h : at_ ≤ 200) : dvQ 220 (dvZn tp sz at_) := by
  unfold dvZn
  exact dvQ_i (fun _ => ⟨by show (-1 : Int) ≤ 220; decide, by show at_ + 1 ≤ 220; omega⟩) fun _ => dvQ_i (fun _ => dvQ_z1 (by omega)) fun _ => dvQ_i (fun _ => dvQ_z1 (by omega)) fun _ => ⟨by show (-1 : Int) ≤ 220; decide, by show at_ ≤ 220; omega⟩
theorem dvQ_th (h : at_ ≤ A) (h0 : 0 ≤ A) (hN : A + 3 ≤ N) : dvQ N (dvTh tp sz at_) :=
  dvQ_b (N := A + 3) (dvQ_dg h h0 (by omega)) (by omega) hN fun a1 _ h1 => ⟨by show -1 ≤ N; omega, by show a1 ≤ N; omega⟩
theorem dvQ_iz {one : Int} (h : at_ ≤ 200) : dvQ4 220 (dvIz tp sz one at_) :=
  dvQ4_i (fun _ => ⟨(dvQ_zn h).1, by show (0 : Int) ≤ 220; decide⟩) fun _ => ⟨by show (-1 : Int) ≤ 220; decide, (dvQ_zn h).2⟩
theorem dvQ_in (h : at_ ≤ 100) : dvQ4 220 (dvIn tp sz at_) :=
  dvQ4_b (N := 120) (dvQ_dy h) (by decide) (by decide) fun a0 day h0 => dvQ4_b (N := 121) (dvQ_wr h0 (by decide) (by decide)) (by decide) (by decide) fun fr _ h1 =>
  dvQ4_b (N := 123) (dvQ_pr h1 (by decide) (by decide)) (by decide) (by decide) fun a2 hh h2 => dvQ4_b (N := 124) (dvQ_wr h2 (by decide) (by decide)) (by decide) (by decide) fun a3 _ h3 =>
  dvQ4_b (N := 126) (dvQ_pr h3 (by decide) (by decide)) (by decide) (by decide) fun a4 m h4 => dvQ4_i (fun _ => ⟨by show fr ≤ 220; omega, by show (0 : Int) ≤ 220; decide⟩) fun _ =>
  dvQ4_b (N := 127) (dvQ_wr h4 (by decide) (by decide)) (by decide) (by decide) fun a5 _ h5 => dvQ4_b (N := 129) (dvQ_pr h5 (by decide) (by decide)) (by decide) (by decide) fun a6 s h6 =>
  dvQ4_i (fun _ => ⟨by show fr ≤ 220; omega, by show (0 : Int) ≤ 220; decide⟩) fun _ => dvQ4_i (fun _ => dvQ_iz (by omega)) fun _ =>
  dvQ4_b (N := 140) (dvQ_th (A := 130) (by omega) (by decide) (by decide)) (by decide) (by decide) fun a7 f h7 => dvQ_iz (by omega)
theorem dvQ_wk {w : Int} : ∀ (j : Nat) (a A : Int), a ≤ A → 0 ≤ A → (dvWk tp sz w j a).1 ≤ A + j ∧ (dvWk tp sz w j a).2 ≤ A + j
  | 0, a, A, h, h0 => ⟨by show (-1 : Int) ≤ A + ((0 : Nat) : Int); omega, by show a ≤ A + ((0 : Nat) : Int); omega⟩
  | j + 1, a, A, h, h0 => by
    have ih := dvQ_wk (w := w) j (a + 1) (A + 1) (by omega) (by omega)
    rw [dvWk]
    by_cases q : dvH tp sz a = w / 2 ^ (8 * (j : Int)).toNat % 256
    · rw [if_pos q]; omega
    · rw [if_neg q]; exact ⟨by show a ≤ A + ((j + 1 : Nat) : Int); omega, by show a ≤ A + ((j + 1 : Nat) : Int); omega⟩
theorem dvQ_tr (h : at_ ≤ 100) : dvQ 220 (dvTr tp sz at_) := by
  have w4 := dvQ_wk (tp := tp) (sz := sz) (w := 1953658213) 4 at_ 100 h (by decide)
  have w5 := dvQ_wk (tp := tp) (sz := sz) (w := 439721161573) 5 at_ 100 h (by decide)
  unfold dvTr
  exact dvQ_i (fun _ => ⟨by show (-1 : Int) ≤ 220; decide, by show at_ + 1 ≤ 220; omega⟩) fun _ => dvQ_i (fun _ => ⟨by show (-1 : Int) ≤ 220; decide, by show at_ + 1 ≤ 220; omega⟩) fun _ => dvQ_i (fun _ => ⟨by show (dvWk tp sz 1953658213 4 at_).1 ≤ 220; omega, by show (dvWk tp sz 1953658213 4 at_).2 ≤ 220; omega⟩) fun _ => ⟨by show (dvWk tp sz 439721161573 5 at_).1 ≤ 220; omega, by show (dvWk tp sz 439721161573 5 at_).2 ≤ 220; omega⟩
theorem dvQ_nu {kind : Int} (h : at_ ≤ 100) : dvQ4 220 (dvNu tp sz kind at_) := by
  have sg : dvSg tp sz at_ ≤ 101 := by unfold dvSg; split <;> omega
  unfold dvNu
  exact dvQ4_b (N := 110) (dvQ_dg sg (by decide) (by decide)) (by decide) (by decide) fun a1 _ h1 => dvQ4_i (fun _ => ⟨by show dvSg tp sz at_ ≤ 220; omega, by show (0 : Int) ≤ 220; decide⟩) fun _ =>
    dvQ4_i (fun _ => dvQ4_b (N := 120) (dvQ_dg (A := 111) (by omega) (by decide) (by decide)) (by decide) (by decide) fun a2 l h2 => dvQ4_i (fun _ => ⟨by show a1 + 1 ≤ 220; omega, by show (0 : Int) ≤ 220; decide⟩) fun _ => ⟨by show (-1 : Int) ≤ 220; decide, by show a2 ≤ 220; omega⟩)
      fun _ => ⟨by show (-1 : Int) ≤ 220; decide, by show a1 ≤ 220; omega⟩
theorem dvQ_sp : ∀ (n : Nat) (k a mo mi so A : Int), a ≤ A → 0 ≤ A → (dvSp tp sz n k a mo mi so).1 ≤ A + 7 * n ∧ (dvSp tp sz n k a mo mi so).2.1 ≤ A + 7 * n
  | 0, k, a, mo, mi, so, A, h, h0 => ⟨by show (-1 : Int) ≤ A + 7 * ((0 : Nat) : Int); omega, by show a ≤ A + 7 * ((0 : Nat) : Int); omega⟩
  | n + 1, k, a, mo, mi, so, A, h, h0 => by
    have d := dvQ_dg (tp := tp) (sz := sz) (least := 1) (most := 6) (N := A + 6) h h0 (by omega)
    have d1 := d.1
    have d2 := d.2
    rw [dvSp]
    unfold pif
    by_cases w : k < 3 ∧ dvD tp sz a
    · rw [if_pos w]
      by_cases w1 : 0 ≤ (dvDg tp sz 1 6 a).1
      · rw [if_pos w1]; exact ⟨by show (dvDg tp sz 1 6 a).1 ≤ _; omega, by show (0 : Int) ≤ _; omega⟩
      · rw [if_neg w1]
        by_cases w2 : 3 ≤ dvAm tp sz 5852484 (dvDg tp sz 1 6 a).2.1 4 k
        · rw [if_pos w2]; exact ⟨by show (dvDg tp sz 1 6 a).2.1 ≤ _; omega, by show (0 : Int) ≤ _; omega⟩
        · rw [if_neg w2]
          have ih := dvQ_sp n (dvAm tp sz 5852484 (dvDg tp sz 1 6 a).2.1 4 k + 1) ((dvDg tp sz 1 6 a).2.1 + 1)
            (mo + (if dvAm tp sz 5852484 (dvDg tp sz 1 6 a).2.1 4 k = 0 then 12 * (dvDg tp sz 1 6 a).2.2 else if dvAm tp sz 5852484 (dvDg tp sz 1 6 a).2.1 4 k = 1 then (dvDg tp sz 1 6 a).2.2 else 0))
            (mi + (if dvAm tp sz 5852484 (dvDg tp sz 1 6 a).2.1 4 k = 2 then 86400000 * (dvDg tp sz 1 6 a).2.2 else 0)) 1 (A + 7) (by omega) (by omega)
          omega
    · rw [if_neg w]; exact ⟨by show (-1 : Int) ≤ _; omega, by show a ≤ _; omega⟩
theorem dvQ_ck : ∀ (n : Nat) (k a mi A : Int), a ≤ A → 0 ≤ A → (dvCk tp sz n k a mi).1 ≤ A + 11 * n ∧ (dvCk tp sz n k a mi).2.1 ≤ A + 11 * n
  | 0, k, a, mi, A, h, h0 => ⟨by show (-1 : Int) ≤ A + 11 * ((0 : Nat) : Int); omega, by show a ≤ A + 11 * ((0 : Nat) : Int); omega⟩
  | n + 1, k, a, mi, A, h, h0 => by
    have d := dvQ_dg (tp := tp) (sz := sz) (least := 1) (most := 6) (N := A + 6) h h0 (by omega)
    have d1 := d.1
    have d2 := d.2
    rw [dvCk]
    by_cases w1 : 0 ≤ (dvDg tp sz 1 6 a).1
    · rw [if_pos w1]; exact ⟨by show (dvDg tp sz 1 6 a).1 ≤ _; omega, by show (0 : Int) ≤ _; omega⟩
    rw [if_neg w1]
    by_cases w2 : dvH tp sz (dvDg tp sz 1 6 a).2.1 = 46
    · rw [if_pos w2]
      have t := dvQ_th (tp := tp) (sz := sz) (at_ := (dvDg tp sz 1 6 a).2.1 + 1) (A := A + 7) (N := A + 10) (by omega) (by omega) (by omega)
      have t1 := t.1
      have t2 := t.2
      by_cases w3 : 0 ≤ (dvTh tp sz ((dvDg tp sz 1 6 a).2.1 + 1)).1
      · rw [if_pos w3]; exact ⟨by show (dvTh tp sz ((dvDg tp sz 1 6 a).2.1 + 1)).1 ≤ _; omega, by show (0 : Int) ≤ _; omega⟩
      · rw [if_neg w3]
        refine ⟨?_, by show (dvTh tp sz ((dvDg tp sz 1 6 a).2.1 + 1)).2.1 + 1 ≤ _; omega⟩
        show dvWt tp sz 83 (dvTh tp sz ((dvDg tp sz 1 6 a).2.1 + 1)).2.1 ≤ _
        unfold dvWt
        split <;> omega
    rw [if_neg w2]
    by_cases w3 : 3 ≤ dvAm tp sz 4738387 (dvDg tp sz 1 6 a).2.1 4 k
    · rw [if_pos w3]; exact ⟨by show (dvDg tp sz 1 6 a).2.1 ≤ _; omega, by show (0 : Int) ≤ _; omega⟩
    rw [if_neg w3]
    unfold pif
    split
    · have ih := dvQ_ck n (dvAm tp sz 4738387 (dvDg tp sz 1 6 a).2.1 4 k + 1) ((dvDg tp sz 1 6 a).2.1 + 1) (mi + (if dvAm tp sz 4738387 (dvDg tp sz 1 6 a).2.1 4 k = 0 then 3600000 * (dvDg tp sz 1 6 a).2.2 else if dvAm tp sz 4738387 (dvDg tp sz 1 6 a).2.1 4 k = 1 then 60000 * (dvDg tp sz 1 6 a).2.2 else 1000 * (dvDg tp sz 1 6 a).2.2)) (A + 7) (by omega) (by omega)
      omega
    · exact ⟨by show (-1 : Int) ≤ _; omega, by show (dvDg tp sz 1 6 a).2.1 + 1 ≤ _; omega⟩
theorem dvQ_se {neg : Prop} [Decidable neg] {so mo mi : Int} (h : at_ ≤ N) (h0 : 0 ≤ N) : dvQ4 N (dvSe neg so at_ mo mi) :=
  dvQ4_i (fun _ => ⟨h, h0⟩) fun _ => dvQ4_i (fun _ => ⟨by show (-1 : Int) ≤ N; omega, h⟩) fun _ => ⟨by show (-1 : Int) ≤ N; omega, h⟩
theorem dvQ_sn (h : at_ ≤ 100) : dvQ4 220 (dvSn tp sz at_) := by
  unfold dvSn
  have e : (if dvH tp sz at_ = 45 then at_ + 1 else at_) ≤ 101 := by split <;> omega
  generalize (if dvH tp sz at_ = 45 then at_ + 1 else at_) = a at e
  have s := dvQ_sp (tp := tp) (sz := sz) 4 0 (a + 1) 0 0 0 102 (by omega) (by decide)
  have c := dvQ_ck (tp := tp) (sz := sz) 4 0 ((dvSp tp sz 4 0 (a + 1) 0 0 0).2.1 + 1) (dvSp tp sz 4 0 (a + 1) 0 0 0).2.2.2.1 131 (by omega) (by decide)
  unfold dvS1
  exact dvQ4_i (fun _ => ⟨by show a ≤ 220; omega, by show (0 : Int) ≤ 220; decide⟩) fun _ => dvQ4_i (fun _ => ⟨by show (dvSp tp sz 4 0 (a + 1) 0 0 0).1 ≤ 220; omega, by show (0 : Int) ≤ 220; decide⟩) fun _ =>
    dvQ4_i (fun _ => dvQ4_i (fun _ => ⟨by have := c.1; omega, by show (0 : Int) ≤ 220; decide⟩) fun _ => dvQ_se (by omega) (by decide)) fun _ => dvQ_se (by omega) (by decide)
theorem dvQ_hx : ∀ (f : Nat) (a n : Int) (row : Int → Int) (A : Int), a ≤ A → 0 ≤ A → (dvHx tp sz f a n row).1 ≤ A + 2 * f
  | 0, a, n, row, A, h, h0 => by show (-1 : Int) ≤ A + 2 * ((0 : Nat) : Int); omega
  | f + 1, a, n, row, A, h, h0 => by
    have ih := dvQ_hx f (a + 2) (n + 1) (updI row n (16 * dvHv (dvH tp sz a) + dvHv (dvH tp sz (a + 1)))) (A + 2) (by omega) (by omega)
    rw [dvHx]
    split
    · show (-1 : Int) ≤ _; omega
    split
    · show a ≤ _; omega
    split
    · show a ≤ _; omega
    split
    · show a + 1 ≤ _; omega
    · omega
theorem dvQ_bs : ∀ (f : Nat) (a n : Int) (row : Int → Int) (A : Int), a ≤ A → 0 ≤ A → (dvBs tp sz f a n row).1 ≤ A + 4 * f
  | 0, a, n, row, A, h, h0 => by show (-1 : Int) ≤ A + 4 * ((0 : Nat) : Int); omega
  | f + 1, a, n, row, A, h, h0 => by
    have ih := dvQ_bs f (a + 4) (n + 3) (updI (updI (updI row n (4 * dvSx (dvH tp sz a) + dvSx (dvH tp sz (a + 1)) / 16)) (n + 1) (dvSx (dvH tp sz (a + 1)) % 16 * 16 + dvSx (dvH tp sz (a + 2)) / 4)) (n + 2) (dvSx (dvH tp sz (a + 2)) % 4 * 64 + dvSx (dvH tp sz (a + 3)))) (A + 4) (by omega) (by omega)
    rw [dvBs]
    split
    · show (-1 : Int) ≤ _; omega
    split
    · show a ≤ _; omega
    split
    · show a + 1 ≤ _; omega
    split
    · split
      · show a + 2 ≤ _; omega
      split
      · show (-1 : Int) ≤ _; omega
      · show a + 3 ≤ _; omega
    split
    · show a + 2 ≤ _; omega
    split
    · show a + 2 ≤ _; omega
    split
    · split
      · show (-1 : Int) ≤ _; omega
      · show a + 3 ≤ _; omega
    split
    · show a + 3 ≤ _; omega
    split
    · show a + 3 ≤ _; omega
    · omega
end
theorem dvDy_r {tp : Int → Int} {sz at_ : Int} (h : 0 ≤ at_) (e : (dvDy tp sz at_).1 = -1) : -1000000000 ≤ (dvDy tp sz at_).2.2 ∧ (dvDy tp sz at_).2.2 ≤ 1000000000 := by
  obtain ⟨yy, mm, dd, hy, hok, edy⟩ := dvDy_b (tp := tp) (sz := sz) h e
  have o := dvOf_e (y := yy) (d := dd) hok.1
  have b1 := dvYs_b2 (y := yy) (by omega)
  have ys : dvYs yy = 146097 * (yy / 400) + dvYd (yy % 400) := rfl
  have yd : 0 ≤ dvYd (yy % 400) ∧ dvYd (yy % 400) ≤ 147000 := by unfold dvYd; split <;> omega
  have b2 := dvOk_b hok
  have yl := dvYl_b (y := yy)
  omega

/-! DatatypeValues, the reference (X49): a tape is read; values are kept and told of -/
/-- what a value may be -/
def dvOv (kind one two : Int) : Prop := (0 ≤ kind ∧ kind ≤ 8) ∧ (kind ≤ 2 → (-1000000000 < one ∧ one < 1000000000) ∧ 0 < two ∧ two < 1000000000) ∧ (kind = 3 → (one = 0 ∨ one = 1) ∧ two = 0) ∧
  (kind = 4 ∨ kind = 5 → (86400000 * dvOf 1 1 1 ≤ one ∧ one < 86400000 * dvOf 10000 1 1) ∧ (two = 10000 ∨ (-900 ≤ two ∧ two ≤ 900))) ∧ (kind = 6 → (-1000000000 < one ∧ one < 1000000000) ∧ -1000000000000000 < two ∧ two < 1000000000000000) ∧ (6 < kind → (0 ≤ one ∧ one ≤ 20) ∧ two = 0)
def dvVs (c : Int) (kd on tw bt : Int → Int) : Prop := (0 ≤ c ∧ c ≤ 200) ∧ ∀ v, 0 ≤ v → v < c → dvOv (kd v) (on v) (tw v) ∧ (6 < kd v → ∀ k, 0 ≤ k → k < on v → 0 ≤ bt (20 * v + k) ∧ bt (20 * v + k) < 256)
def dvBu (bt : Int → Int) (c n : Int) (row : Int → Int) : Int → Int := fun x => if 20 * c ≤ x ∧ x < 20 * c + n then row (x - 20 * c) else bt x
/-- the end of a reading: fault, one, two, how many bytes, bytes -/
def dvFn (sz f a one two n : Int) (row : Int → Int) : Int × Int × Int × Int × (Int → Int) := if 0 ≤ f then (f, 0, 0, 0, row) else if a = sz then (-1, one, two, n, row) else (a, 0, 0, 0, row)
noncomputable def dvDt (tp : Int → Int) (sz : Int) : Int × Int × Int × Int := dvB4 (dvDy tp sz 0) fun a day => dvIz tp sz (86400000 * day) a
noncomputable def dvRv (tp : Int → Int) (sz kind : Int) : Int × Int × Int × Int × (Int → Int) :=
  if kind = 3 then dvFn sz (dvTr tp sz 0).1 (dvTr tp sz 0).2.1 (dvTr tp sz 0).2.2 0 0 (fun _ => 0)
  else if kind = 4 then dvFn sz (dvDt tp sz).1 (dvDt tp sz).2.1 (dvDt tp sz).2.2.1 (dvDt tp sz).2.2.2 0 (fun _ => 0)
  else if kind = 5 then dvFn sz (dvIn tp sz 0).1 (dvIn tp sz 0).2.1 (dvIn tp sz 0).2.2.1 (dvIn tp sz 0).2.2.2 0 (fun _ => 0)
  else if kind = 6 then dvFn sz (dvSn tp sz 0).1 (dvSn tp sz 0).2.1 (dvSn tp sz 0).2.2.1 (dvSn tp sz 0).2.2.2 0 (fun _ => 0)
  else if kind = 7 then dvFn sz (dvHx tp sz 33 0 0 (fun _ => 0)).1 (dvHx tp sz 33 0 0 (fun _ => 0)).2.1 0 0 (dvHx tp sz 33 0 0 (fun _ => 0)).2.2.1 (dvHx tp sz 33 0 0 (fun _ => 0)).2.2.2
  else if kind = 8 then dvFn sz (dvBs tp sz 17 0 0 (fun _ => 0)).1 (dvBs tp sz 17 0 0 (fun _ => 0)).2.1 0 0 (dvBs tp sz 17 0 0 (fun _ => 0)).2.2.1 (dvBs tp sz 17 0 0 (fun _ => 0)).2.2.2
  else dvFn sz (dvNu tp sz kind 0).1 (dvNu tp sz kind 0).2.1 (dvNu tp sz kind 0).2.2.1 (dvNu tp sz kind 0).2.2.2 0 (fun _ => 0)
section
variable {tp kd on tw bt row row2 : Int → Int} {sz c kind one two n v x y i : Int}
theorem dvBu_e (h : dvEq n row row2) : dvBu bt c n row = dvBu bt c n row2 := funext fun x => by
  unfold dvBu
  by_cases w : 20 * c ≤ x ∧ x < 20 * c + n
  · rw [if_pos w, if_pos w]; exact h _ (by omega) (by omega)
  · rw [if_neg w, if_neg w]
theorem T49_keep {post : Int → (Int → Int) → (Int → Int) → (Int → Int) → (Int → Int) → Int → Prop} (hc : 0 ≤ c ∧ c ≤ 200) (hn : 0 ≤ n ∧ n ≤ 20) (h2 : c = 200 → post (-3) kd on tw bt c) (h : c < 200 → post c (updI kd c kind) (updI on c (if kind ≤ 6 then one else n)) (updI tw c (if kind = 3 ∨ 6 < kind then 0 else two)) (dvBu bt c n row) (c + 1)) : wpX49_keep post kd on tw bt c one two row n kind := by
  have key : ∀ (o w : Int), c < 200 → o = (if kind ≤ 6 then one else n) → w = (if kind = 3 ∨ 6 < kind then 0 else two) → ∃ fu : Nat, wX49_keep_80 (fun (f_bytes_21 : Int → Int) => zR (c + 1) ∧ (∀ f_count_25 : Int, f_count_25 = c + 1 → (zR (f_count_25 - 1) ∧ (post (f_count_25 - 1) (updI kd c kind) (updI on c o) (updI tw c w) f_bytes_21 f_count_25)))) c row n fu 0 bt := fun o w c2 eo ew => by
    have H := h c2
    rw [← eo, ← ew] at H
    refine wl2 (fun f x b => wX49_keep_80 _ c row n f x b) (fun x b => (0 ≤ x ∧ x ≤ n) ∧ b = dvBu bt c x row) (fun x _ => (n - x).toNat) ?_ 0 bt ⟨by omega, funext fun z => by unfold dvBu; rw [if_neg (by omega)]⟩
    rintro x b ⟨hx, eb⟩ f ih
    rw [wX49_keep_80]
    refine ⟨fun z => ⟨by omega, fun c1 ec => ⟨by omega, ?_⟩⟩, fun z => ⟨by omega, fun v ev => ⟨by omega, fun b2 eb2 => ⟨by omega, fun x2 ex => ?_⟩⟩⟩⟩
    · have : x = n := by omega
      rw [ec, eb, this, show c + 1 - 1 = c by omega]; exact H
    · subst ex eb2 ev
      refine ih _ _ ⟨by omega, ?_⟩ (by omega)
      rw [eb]
      refine funext fun z => ?_
      unfold dvBu updI
      by_cases e : z = 20 * c + x
      · rw [if_pos e, if_pos (by omega), e, show 20 * c + x - 20 * c = x by omega]
      · rw [if_neg e]
        by_cases w2 : 20 * c ≤ z ∧ z < 20 * c + x
        · show (if 20 * c ≤ z ∧ z < 20 * c + x then row (z - 20 * c) else bt z) = _
          rw [if_pos w2, if_pos (by omega)]
        · show (if 20 * c ≤ z ∧ z < 20 * c + x then row (z - 20 * c) else bt z) = _
          rw [if_neg w2, if_neg (by omega)]
  have k49 : ∀ o : Int, c < 200 → o = (if kind ≤ 6 then one else n) → wX49_keep_49 post kind c o (updI kd c kind) on tw bt c two row n := fun o c2 eo => by
    unfold wX49_keep_49
    refine ⟨by omega, fun on2 e1 => ?_⟩
    subst e1
    refine ⟨fun k3 => ⟨by omega, fun tw2 e2 => ?_⟩, fun k3 => ⟨fun k6 => ⟨by omega, fun tw2 e2 => ?_⟩, fun k6 => ⟨by omega, fun tw2 e2 => ?_⟩⟩⟩
    · subst e2; exact key o 0 c2 eo (by rw [if_pos (Or.inl k3)])
    · subst e2; exact key o two c2 eo (by rw [if_neg (by omega)])
    · subst e2; exact key o 0 c2 eo (by rw [if_pos (by omega)])
  unfold wpX49_keep
  refine ⟨h2, fun z => ⟨by omega, fun kd2 e1 => ?_⟩⟩
  subst e1
  exact ⟨fun k6 => k49 one (by omega) (by rw [if_pos k6]), fun k6 => k49 n (by omega) (by rw [if_neg k6])⟩
theorem dvFn_1 {f a : Int} : (0 ≤ f → dvFn sz f a one two n row = (f, 0, 0, 0, row)) ∧ (f = -1 → a = sz → dvFn sz f a one two n row = (-1, one, two, n, row)) ∧ (f = -1 → ¬ a = sz → dvFn sz f a one two n row = (a, 0, 0, 0, row)) := by
  unfold dvFn
  exact ⟨fun h => if_pos h, fun h e => by rw [if_neg (by omega), if_pos e], fun h e => by rw [if_neg (by omega), if_neg e]⟩
theorem T49_read {post : Int → (Int → Int) → (Int → Int) → (Int → Int) → (Int → Int) → Int → Int → Int → Int → Int → Int → (Int → Int) → Int → Int → Int → Int → Prop} {at_ F o1 o2 rs sm sl : Int} (hT : dvT tp) (hsz : 0 ≤ sz ∧ sz ≤ 64) (hc : 0 ≤ c ∧ c ≤ 200)
    (h1 : ¬ (0 ≤ kind ∧ kind ≤ 8) → post (-1) kd on tw bt c sz at_ F o1 o2 row rs 0 sm sl)
    (hb : (0 ≤ kind ∧ kind ≤ 8) → 0 ≤ (dvRv tp sz kind).1 → ∀ at_ o1 o2 row rs sm sl, post (-10 - (dvRv tp sz kind).1) kd on tw bt c 0 at_ (dvRv tp sz kind).1 o1 o2 row rs 0 sm sl)
    (h3 : (0 ≤ kind ∧ kind ≤ 8) → (dvRv tp sz kind).1 = -1 → c = 200 → ∀ at_ o1 o2 row rs sm sl, post (-3) kd on tw bt c 0 at_ (-1) o1 o2 row rs 0 sm sl)
    (h0 : (0 ≤ kind ∧ kind ≤ 8) → (dvRv tp sz kind).1 = -1 → c < 200 → ∀ at_ o1 o2 row rs sm sl, post c (updI kd c kind) (updI on c (if kind ≤ 6 then (dvRv tp sz kind).2.1 else (dvRv tp sz kind).2.2.2.1)) (updI tw c (if kind = 3 ∨ 6 < kind then 0 else (dvRv tp sz kind).2.2.1)) (dvBu bt c (dvRv tp sz kind).2.2.2.1 (dvRv tp sz kind).2.2.2.2) (c + 1) 0 at_ (-1) o1 o2 row rs 0 sm sl) : wpX49_read post kd on tw bt c tp sz at_ F o1 o2 row rs sm sl kind := by
  have G0 : dvG sz 0 := ⟨by decide, by decide, hsz.2⟩
  -- with a fault
  have ill : ∀ (f : Int), (0 ≤ kind ∧ kind ≤ 8) → 0 ≤ f → f ≤ 100000 → (dvRv tp sz kind).1 = f → ∀ a y one two row' n' sm sl, wX49_read_64 post kind y kd on tw bt c a f one two row' n' 0 sm sl := fun f hk hf hf2 e a y one two row' n' sm sl => by
    have H := hb hk (by omega)
    rw [e] at H
    unfold wX49_read_64
    refine T49_needX hf ⟨fun q => by omega, fun _ => ⟨by omega, ?_⟩⟩
    exact H _ _ _ _ _ _ _
  -- without
  have well : ∀ (a one two n' : Int) (row' row2 : Int → Int), (0 ≤ kind ∧ kind ≤ 8) → 0 ≤ a → a ≤ 70 → (0 ≤ n' ∧ n' ≤ 20) → dvEq n' row' row2 → (dvRv tp sz kind = dvFn sz (-1) a one two n' row2) → ∀ sm sl, ((a = sz → wX49_read_64 post kind 1 kd on tw bt c a (-1) one two row' n' 0 sm sl) ∧ (¬ a = sz → wX49_read_64 post kind 0 kd on tw bt c a (-1) one two row' n' 0 sm sl)) := fun a one two n' row' row2 hk a0 a1 hn he e sm sl => by
    refine ⟨fun ea => ?_, fun ea => ?_⟩
    · rw [dvFn_1.2.1 rfl ea] at e
      have H3 := h3 hk (by rw [e])
      have H0 := h0 hk (by rw [e])
      rw [e] at H0
      dsimp only at H0
      unfold wX49_read_64
      refine ⟨fun q => absurd q (by decide), fun _ => ⟨fun q => absurd q (by decide), fun _ => ⟨fun _ => T49_keep hc hn (fun q => H3 q _ _ _ _ _ _ _) (fun q => ?_), fun q => absurd (by decide) q⟩⟩⟩
      rw [dvBu_e he]
      exact H0 q _ _ _ _ _ _ _
    · rw [dvFn_1.2.2 rfl ea] at e
      have H := hb hk (by rw [e]; exact a0)
      rw [e] at H
      dsimp only at H
      unfold wX49_read_64
      refine ⟨fun q => absurd q (by decide), fun _ => ⟨fun _ => ⟨fun q => by omega, fun _ => ⟨by omega, ?_⟩⟩, fun q => absurd rfl q⟩⟩
      exact H _ _ _ _ _ _ _
  have rv3 : kind = 3 → dvRv tp sz kind = dvFn sz (dvTr tp sz 0).1 (dvTr tp sz 0).2.1 (dvTr tp sz 0).2.2 0 0 (fun _ => 0) := fun k => by unfold dvRv; rw [if_pos k]
  have rv4 : kind = 4 → dvRv tp sz kind = dvFn sz (dvDt tp sz).1 (dvDt tp sz).2.1 (dvDt tp sz).2.2.1 (dvDt tp sz).2.2.2 0 (fun _ => 0) := fun k => by unfold dvRv; rw [if_neg (by omega), if_pos k]
  have rv5 : kind = 5 → dvRv tp sz kind = dvFn sz (dvIn tp sz 0).1 (dvIn tp sz 0).2.1 (dvIn tp sz 0).2.2.1 (dvIn tp sz 0).2.2.2 0 (fun _ => 0) := fun k => by unfold dvRv; rw [if_neg (by omega), if_neg (by omega), if_pos k]
  have rv6 : kind = 6 → dvRv tp sz kind = dvFn sz (dvSn tp sz 0).1 (dvSn tp sz 0).2.1 (dvSn tp sz 0).2.2.1 (dvSn tp sz 0).2.2.2 0 (fun _ => 0) := fun k => by unfold dvRv; rw [if_neg (by omega), if_neg (by omega), if_neg (by omega), if_pos k]
  have rv7 : kind = 7 → dvRv tp sz kind = dvFn sz (dvHx tp sz 33 0 0 (fun _ => 0)).1 (dvHx tp sz 33 0 0 (fun _ => 0)).2.1 0 0 (dvHx tp sz 33 0 0 (fun _ => 0)).2.2.1 (dvHx tp sz 33 0 0 (fun _ => 0)).2.2.2 := fun k => by unfold dvRv; rw [if_neg (by omega), if_neg (by omega), if_neg (by omega), if_neg (by omega), if_pos k]
  have rv8 : kind = 8 → dvRv tp sz kind = dvFn sz (dvBs tp sz 17 0 0 (fun _ => 0)).1 (dvBs tp sz 17 0 0 (fun _ => 0)).2.1 0 0 (dvBs tp sz 17 0 0 (fun _ => 0)).2.2.1 (dvBs tp sz 17 0 0 (fun _ => 0)).2.2.2 := fun k => by unfold dvRv; rw [if_neg (by omega), if_neg (by omega), if_neg (by omega), if_neg (by omega), if_neg (by omega), if_pos k]
  have rv0 : ¬ kind = 3 → ¬ kind = 4 → ¬ kind = 5 → ¬ kind = 6 → ¬ kind = 7 → ¬ kind = 8 → dvRv tp sz kind = dvFn sz (dvNu tp sz kind 0).1 (dvNu tp sz kind 0).2.1 (dvNu tp sz kind 0).2.2.1 (dvNu tp sz kind 0).2.2.2 0 (fun _ => 0) := fun a b c d e f => by unfold dvRv; rw [if_neg a, if_neg b, if_neg c, if_neg d, if_neg e, if_neg f]
  have z0 : (0 : Int) ≤ 100 := by decide
  have n0 : (0 : Int) ≤ 0 ∧ (0 : Int) ≤ 20 := by decide
  have q0 : ∀ r : Int → Int, dvEq 0 r (fun _ => 0) := fun r k h1 h2 => by omega
  have fin : ∀ {f : Int} (hk : 0 ≤ kind ∧ kind ≤ 8) (hf : 0 ≤ f) (hf2 : f ≤ 1000) (e : (dvRv tp sz kind).1 = f) (a one two : Int) (row' : Int → Int) (n' sm sl : Int), ((a = sz → wX49_read_64 post kind 1 kd on tw bt c a f one two row' n' 0 sm sl) ∧ (¬ a = sz → wX49_read_64 post kind 0 kd on tw bt c a f one two row' n' 0 sm sl)) :=
    fun hk hf hf2 e a one two row' n' sm sl => ⟨fun _ => ill _ hk hf (by omega) e _ _ _ _ _ _ _ _, fun _ => ill _ hk hf (by omega) e _ _ _ _ _ _ _ _⟩
  unfold wpX49_read
  refine ⟨fun k0 => h1 (by omega), fun k0 => ⟨fun k8 => ?_, fun k8 => h1 (by omega)⟩⟩
  have hk : 0 ≤ kind ∧ kind ≤ 8 := by omega
  unfold wpX49_readAs
  refine ⟨fun k3 => ?_, fun k3 => ⟨fun k4 => ?_, fun k4 => ⟨fun k5 => ?_, fun k5 => ⟨fun k6 => ?_, fun k6 => ⟨fun k7 => ?_, fun k7 => ⟨fun k8 => ?_, fun k8 => ?_⟩⟩⟩⟩⟩⟩
  · have Q := dvQ_tr (tp := tp) (sz := sz) z0
    exact T49_truth G0 (fun q g => well _ _ 0 0 _ _ hk g.1 (by have := g.2.1; omega) n0 (q0 _) (by rw [rv3 k3, q]) _ _)
      (fun q a one => fin hk q (by have := Q.1; omega) (by rw [rv3 k3, dvFn_1.1 q]) _ _ _ _ _ _ _)
  · have Q := dvQ_dy (tp := tp) (sz := sz) z0
    refine T49_day G0 (fun q g => ?_) (fun q a g => ⟨by decide, fun one e1 => T49_zoneX g.a q (fun two e2 => fin hk q (by have := Q.1; omega) (by rw [rv4 k4, dvFn_1.1 (by unfold dvDt; rw [dvB4_f q]; exact q)]; unfold dvDt; rw [dvB4_f q]) _ _ _ _ _ _ _)⟩)
    have dr := dvDy_r (tp := tp) (sz := sz) (at_ := 0) (by decide) q
    have eD : dvDt tp sz = dvIz tp sz (86400000 * (dvDy tp sz 0).2.2) (dvDy tp sz 0).2.1 := by unfold dvDt; rw [dvB4_k q]
    have Q2 := dvQ_zn (tp := tp) (sz := sz) (at_ := (dvDy tp sz 0).2.1) (by have := Q.2; omega)
    refine ⟨by omega, fun one e1 => T49_zone g (fun q2 g2 two e2 => ?_) (fun q2 v a g2 two e2 => ?_)⟩
    · subst e1 e2
      exact well _ _ _ 0 _ _ hk g2.1 (by have := g2.2.1; omega) n0 (q0 _) (by rw [rv4 k4, eD]; unfold dvIz; rw [if_neg (by omega)]) _ _
    · exact fin hk q2 (by have := Q2.1; omega) (by rw [rv4 k4, eD]; unfold dvIz; rw [if_pos q2, dvFn_1.1 q2]) _ _ _ _ _ _ _
  · have Q := dvQ_in (tp := tp) (sz := sz) z0
    exact T49_instant G0 (fun q g => well _ _ _ 0 _ _ hk g.1 (by have := g.2.1; omega) n0 (q0 _) (by rw [rv5 k5, q]) _ _)
      (fun q a one two => fin hk q (by have := Q.1; omega) (by rw [rv5 k5, dvFn_1.1 q]) _ _ _ _ _ _ _)
  · have Q := dvQ_sn (tp := tp) (sz := sz) z0
    exact T49_span G0 (fun q g _ _ sm sl => well _ _ _ 0 _ _ hk g.1 (by have := g.2.1; omega) n0 (q0 _) (by rw [rv6 k6, q]) _ _)
      (fun q a one two sm sl => fin hk q (by have := Q.1; omega) (by rw [rv6 k6, dvFn_1.1 q]) _ _ _ _ _ _ _)
  · have Q := dvQ_hx (tp := tp) (sz := sz) 33 0 0 (fun _ => 0) 0 (by decide) (by decide)
    exact T49_hex hT G0 (fun q g hn row' he hb => well _ _ _ _ _ _ hk g.1 (by have := g.2.1; omega) hn he (by rw [rv7 k7, q]) _ _)
      (fun q a row' n' => fin hk q (by omega) (by rw [rv7 k7, dvFn_1.1 q]) _ _ _ _ _ _ _)
  · have Q := dvQ_bs (tp := tp) (sz := sz) 17 0 0 (fun _ => 0) 0 (by decide) (by decide)
    exact T49_base G0 (fun q g hn row' he hb => well _ _ _ _ _ _ hk g.1 (by have := g.2.1; omega) hn he (by rw [rv8 k8, q]) _ _)
      (fun q a row' n' => fin hk q (by omega) (by rw [rv8 k8, dvFn_1.1 q]) _ _ _ _ _ _ _)
  · have Q := dvQ_nu (tp := tp) (sz := sz) (kind := kind) z0
    exact T49_number G0 (fun q g => well _ _ _ 0 _ _ hk g.1 (by have := g.2.1; omega) n0 (q0 _) (by rw [rv0 k3 k4 k5 k6 k7 k8, q]) _ _)
      (fun q a one two => fin hk q (by have := Q.1; omega) (by rw [rv0 k3 k4 k5 k6 k7 k8, dvFn_1.1 q]) _ _ _ _ _ _ _)
end

/-! DatatypeValues, the reference (X49): a tape is typed; what is told of values; compared -/
noncomputable def dvTq (tp : Int → Int) (sz x n j : Int) : Int → Int := fun i => if sz ≤ i ∧ i < sz + j then w8 (x / 2 ^ (8 * (n - 1 - (i - sz))).toNat) else tp i
def dvSgn (a b : Int) : Int := if a < b then -1 else if b < a then 1 else 0
def dvPt (on tw : Int → Int) (v : Int) : Int := if tw v = 10000 then on v else on v - 60000 * tw v
def dvTf (x f l : Int) : Int := if f = l ∧ ¬ f = 0 then f else x
def dvTm (on tw : Int → Int) (a b : Int) : Int :=
  if (tw a = 10000) ↔ (tw b = 10000) then dvSgn (dvPt on tw a) (dvPt on tw b)
  else if tw a = 10000 then dvTf 2 (dvSgn (on a - 50400000) (dvPt on tw b)) (dvSgn (on a + 50400000) (dvPt on tw b))
  else dvTf 2 (dvSgn (dvPt on tw a) (on b - 50400000)) (dvSgn (dvPt on tw a) (on b + 50400000))
def dvD0 : Int := dvOf 1696 9 1
def dvD1 : Int := dvOf 1697 2 1
def dvD2 : Int := dvOf 1903 3 1
def dvD3 : Int := dvOf 1903 7 1
noncomputable def dvNw (on tw : Int → Int) (a b d : Int) : Int := dvSgn (dvLt (86400000 * d) (on a) (tw a)) (dvLt (86400000 * d) (on b) (tw b))
noncomputable def dvSs (on tw : Int → Int) (a b : Int) : Int :=
  if dvNw on tw a b dvD0 = dvNw on tw a b dvD1 ∧ dvNw on tw a b dvD1 = dvNw on tw a b dvD2 ∧ dvNw on tw a b dvD2 = dvNw on tw a b dvD3 then dvNw on tw a b dvD3 else 2
def dvCr (on bt : Int → Int) (a b : Int) : Nat → Int → Int
  | 0, _ => dvSgn (on a) (on b)
  | n + 1, k => if on a ≤ k ∨ on b ≤ k then dvSgn (on a) (on b) else if dvSgn (bt (20 * a + k)) (bt (20 * b + k)) = 0 then dvCr on bt a b n (k + 1) else dvSgn (bt (20 * a + k)) (bt (20 * b + k))
noncomputable def dvCm (kd on tw bt : Int → Int) (c a b : Int) : Int :=
  if ¬ ((0 ≤ a ∧ a < c) ∧ 0 ≤ b ∧ b < c) then -1 else if kd a ≤ 2 ∧ kd b ≤ 2 then dvSgn (on a * tw b) (on b * tw a) else if 6 < kd a ∧ 6 < kd b then dvCr on bt a b 21 0 else
  if ¬ kd a = kd b then 2 else if kd a = 3 then dvSgn (on a) (on b) else if kd a = 6 then dvSs on tw a b else dvTm on tw a b
section
variable {tp kd on tw bt row : Int → Int} {sz c v x y n a b i F : Int}
theorem dv_w8 : -128 ≤ w8 x ∧ w8 x < 128 := by
  unfold w8
  have h1 := Int.le_bmod (x := x) (m := 256) (by decide)
  have h2 := Int.bmod_lt (x := x) (m := 256) (by decide)
  omega
theorem T49_type {post : Int → (Int → Int) → Int → Int → Prop} (hsz : 0 ≤ sz ∧ sz ≤ 64) (hn : zR n) (h1 : ¬ (1 ≤ n ∧ n ≤ 8) → post (-1) tp sz 0) (h3 : (1 ≤ n ∧ n ≤ 8) → 64 < sz + n → post (-3) tp sz 0) (h0 : (1 ≤ n ∧ n ≤ 8) → sz + n ≤ 64 → post (sz + n) (dvTq tp sz x n n) (sz + n) 0) : wpX49_type post tp sz x n := by
  unfold wpX49_type
  refine ⟨fun z => h1 (by omega), fun z => ⟨fun z8 => ⟨by omega, fun zs => ⟨by omega, fun x4 e4 => ?_⟩, fun zs => h3 (by omega) (by omega)⟩, fun z8 => h1 (by omega)⟩⟩
  have H := h0 (by omega) zs
  refine wl3 (fun f k t s => wX49_type_37 _ x f k t s) (fun k t s => (-1 ≤ k ∧ k ≤ n - 1) ∧ s = sz + (n - 1 - k) ∧ t = dvTq tp sz x n (n - 1 - k)) (fun k _ _ => (k + 1).toNat) ?_ x4 tp sz ⟨by omega, by omega, funext fun i => by unfold dvTq; rw [if_neg (by omega)]⟩
  rintro k t s ⟨hk, es, et⟩ f ih
  rw [wX49_type_37]
  refine ⟨fun q => ?_, fun q => ⟨by omega, by omega, fun w ew => ⟨by omega, by rw [ew]; exact dv_w8, fun t2 e2 => ⟨by omega, fun s2 e3 => ⟨by omega, fun k2 e5 => ?_⟩⟩⟩⟩⟩
  · have ek : k = -1 := by omega
    rw [et, es, ek, show n - 1 - -1 = n by omega]; exact H
  · subst e5 e3 e2
    refine ih _ _ _ ⟨by omega, by omega, ?_⟩ (by omega)
    refine funext fun i => ?_
    unfold updI
    by_cases e : i = s
    · rw [if_pos e, ew]
      unfold dvTq
      rw [if_pos (by omega), e, es, show n - 1 - (sz + (n - 1 - k) - sz) = k by omega]
    · rw [if_neg e, et]
      unfold dvTq
      by_cases w2 : sz ≤ i ∧ i < sz + (n - 1 - k)
      · rw [if_pos w2, if_pos (by omega)]
      · rw [if_neg w2, if_neg (by omega)]
theorem T49_isV {X Y : Prop} (h1 : 0 ≤ v → v < c → Y) (h0 : ¬ (0 ≤ v ∧ v < c) → X) : wpX49_isValue (fun r => (r = 0 → X) ∧ (¬ r = 0 → Y)) c v :=
  ⟨fun _ => ⟨fun _ => h0 (by omega), fun q => absurd rfl q⟩, fun _ => ⟨fun _ => ⟨fun _ => h0 (by omega), fun q => absurd rfl q⟩, fun _ => ⟨fun q => absurd q (by decide), fun _ => h1 (by omega) (by omega)⟩⟩⟩
theorem T49_isN {X Y : Prop} (hc : c ≤ 200) (h1 : 0 ≤ v → v < c → kd v ≤ 2 → Y) (h0 : ¬ ((0 ≤ v ∧ v < c) ∧ kd v ≤ 2) → X) : wpX49_isNumber (fun r => (r = 0 → X) ∧ (¬ r = 0 → Y)) kd c v := by
  unfold wpX49_isNumber
  exact T49_isV (fun a b => ⟨by omega, fun _ => ⟨fun _ => h0 (by omega), fun q => absurd rfl q⟩, fun _ => ⟨fun q => absurd q (by decide), fun _ => h1 a b (by omega)⟩⟩) (fun q => ⟨fun _ => h0 (by omega), fun q => absurd rfl q⟩)
theorem T49_kind {post : Int → Int → Prop} (hc : c ≤ 200) (hp : post (if 0 ≤ v ∧ v < c then kd v else -1) 0) : wpX49_kind post kd c v := by
  unfold wpX49_kind
  refine T49_isV (fun a b => ⟨by omega, ?_⟩) (fun q => ?_)
  · rw [if_pos ⟨a, b⟩] at hp; exact hp
  · rw [if_neg q] at hp; exact hp
theorem T49_part {post : Int → Int → Prop} (hc : c ≤ 200) (hp : post (if 0 ≤ v ∧ v < c then (if i = 0 then on v else if i = 1 then tw v else 0) else 0) 0) : wpX49_part post on tw c v i := by
  unfold wpX49_part
  refine T49_isV (fun a b => ?_) (fun q => ?_)
  · rw [if_pos ⟨a, b⟩] at hp
    refine ⟨fun e => ⟨by omega, ?_⟩, fun e => ⟨fun e1 => ⟨by omega, ?_⟩, fun e1 => ?_⟩⟩
    · rw [if_pos e] at hp; exact hp
    · rw [if_neg e, if_pos e1] at hp; exact hp
    · rw [if_neg e, if_neg e1] at hp; exact hp
  · rw [if_neg q] at hp; exact hp
theorem T49_byteOf {post : Int → Int → Prop} (hc : c ≤ 200) (V : 0 ≤ v → v < c → 6 < kd v → on v ≤ 20) (hp : post (if (0 ≤ v ∧ v < c) ∧ 6 < kd v ∧ 0 ≤ i ∧ i < on v then bt (20 * v + i) else -1) 0) : wpX49_byteOf post kd on bt c v i := by
  unfold wpX49_byteOf
  refine T49_isV (fun a b => ⟨by omega, fun k => ?_, fun k => ⟨fun z => ?_, fun z => ⟨fun w => ?_, fun w => ⟨?_, ?_⟩⟩⟩⟩) (fun q => ?_)
  · rw [if_neg (by omega)] at hp; exact hp
  · rw [if_neg (by omega)] at hp; exact hp
  · rw [if_neg (by omega)] at hp; exact hp
  · have := V a b (by omega); omega
  · rw [if_pos (by omega)] at hp; exact hp
  · rw [if_neg (fun w => q w.1)] at hp; exact hp
theorem T49_sign {post : Int → Prop} (hp : post (dvSgn x y)) : wpX49_sign post x y := by
  unfold dvSgn at hp
  unfold wpX49_sign
  refine ⟨fun q => ⟨fun w => ?_, fun w => ?_⟩, fun q => ?_⟩
  · rw [if_neg (by omega), if_neg (by omega)] at hp; exact hp
  · rw [if_neg (by omega), if_pos (by omega)] at hp; exact hp
  · rw [if_pos (by omega)] at hp; exact hp
theorem dvSgn_b : dvSgn x y = -1 ∨ dvSgn x y = 0 ∨ dvSgn x y = 1 := by
  unfold dvSgn
  split
  · exact Or.inl rfl
  · split
    · exact Or.inr (Or.inr rfl)
    · exact Or.inr (Or.inl rfl)
theorem T49_point {post : Int → Prop} (hv : 0 ≤ v ∧ v < 200) (h1 : -1000000000000000 ≤ on v ∧ on v ≤ 1000000000000000) (h2 : -1000000000 ≤ tw v ∧ tw v ≤ 1000000000) (hp : post (dvPt on tw v)) : wpX49_point post on tw v := by
  unfold dvPt at hp
  unfold wpX49_point
  refine ⟨hv, fun q => ?_, fun q => ⟨by omega, ?_⟩⟩
  · rw [if_pos q] at hp; exact hp
  · rw [if_neg q] at hp; exact hp
theorem T49_t152 {post : Int → Prop} {f l : Int} (hf : f = -1 ∨ f = 0 ∨ f = 1) (hp : post (dvTf 2 f l)) : wX49_compareTimes_152 post f l := by
  unfold dvTf at hp
  unfold wX49_compareTimes_152
  refine ⟨fun e => ⟨fun z => ?_, fun z => ⟨by omega, ?_⟩⟩, fun e => ?_⟩
  · rw [if_neg (fun w => w.2 z)] at hp; exact hp
  · rw [if_pos ⟨e, z⟩] at hp; exact hp
  · rw [if_neg (fun w => e w.1)] at hp; exact hp
theorem T49_compareTimes {post : Int → Prop} (ha : 0 ≤ a ∧ a < 200) (hb : 0 ≤ b ∧ b < 200) (a1 : -1000000000000000 ≤ on a ∧ on a ≤ 1000000000000000) (a2 : -1000000 ≤ tw a ∧ tw a ≤ 1000000) (b1 : -1000000000000000 ≤ on b ∧ on b ≤ 1000000000000000) (b2 : -1000000 ≤ tw b ∧ tw b ≤ 1000000) (hp : post (dvTm on tw a b)) : wpX49_compareTimes post on tw a b := by
  have pa : ∀ {post : Int → Prop}, post (dvPt on tw a) → wpX49_point post on tw a := fun h => T49_point ha a1 (by omega) h
  have pb : ∀ {post : Int → Prop}, post (dvPt on tw b) → wpX49_point post on tw b := fun h => T49_point hb b1 (by omega) h
  have same : ∀ x : Int, ((tw a = 10000) ↔ (tw b = 10000)) → wX49_compareTimes_37 post a b x x on tw := fun x e => by
    unfold dvTm at hp
    rw [if_pos e] at hp
    unfold wX49_compareTimes_37
    exact ⟨fun _ => pa (pb (T49_sign hp)), fun q => absurd rfl q⟩
  unfold wpX49_compareTimes
  refine ⟨ha, fun qa => ⟨hb, fun qb => same 1 (by omega), fun qb => ?_⟩, fun qa => ⟨hb, fun qb => ?_, fun qb => same 0 (by omega)⟩⟩
  · unfold dvTm at hp
    rw [if_neg (by omega), if_pos qa] at hp
    unfold wX49_compareTimes_37
    refine ⟨fun q => absurd q (by decide), fun _ => ⟨fun q => absurd q (by decide), fun _ => ⟨ha, pb ⟨by omega, T49_sign ?_⟩⟩⟩⟩
    unfold wX49_compareTimes_107
    exact ⟨fun q => absurd q (by decide), fun _ => ⟨ha, pb ⟨by omega, T49_sign (T49_t152 dvSgn_b hp)⟩⟩⟩
  · unfold dvTm at hp
    rw [if_neg (by omega), if_neg qa] at hp
    unfold wX49_compareTimes_37
    refine ⟨fun q => absurd q (by decide), fun _ => ⟨fun _ => pa ⟨hb, by omega, T49_sign ?_⟩, fun q => absurd rfl q⟩⟩
    unfold wX49_compareTimes_107
    exact ⟨fun _ => pa ⟨hb, by omega, T49_sign (T49_t152 dvSgn_b hp)⟩, fun q => absurd rfl q⟩
theorem T49_cs74 {K5 : Int → Int → Int → Int → Int → Prop} {K129 : Int → Int → Int → Prop} {x3 x4 d : Int} (ha : 0 ≤ a ∧ a < 200) (hb : 0 ≤ b ∧ b < 200) (a1 : -1000000000 ≤ on a ∧ on a ≤ 1000000000) (a2 : -1000000000000000 ≤ tw a ∧ tw a ≤ 1000000000000000) (b1 : -1000000000 ≤ on b ∧ on b ≤ 1000000000) (b2 : -1000000000000000 ≤ tw b ∧ tw b ≤ 1000000000000000) (hd : -1000000 ≤ d ∧ d ≤ 1000000) (h4 : 0 ≤ x4 ∧ x4 ≤ 4)
    (h1 : x3 = 5 ∨ x3 = dvNw on tw a b d → ∀ y m e, K5 (dvNw on tw a b d) (x4 + 1) y m e) (h0 : ¬ x3 = 5 → ¬ x3 = dvNw on tw a b d → ∀ y m e, K129 y m e) : wX49_compareSpans_74 K5 K129 a b x3 x4 86400000 d on tw := by
  unfold wX49_compareSpans_74
  refine ⟨by omega, fun t et => ⟨ha, T49_later (by omega) (by omega) (by omega) fun y m e => ⟨hb, T49_later (by omega) (by omega) (by omega) fun y2 m2 e2 => T49_sign ?_⟩⟩⟩
  subst et
  exact ⟨fun q => ⟨by omega, fun k ek => by subst ek; exact h1 (Or.inl q) _ _ _⟩, fun q => ⟨fun w => ⟨by omega, fun k ek => by subst ek; exact h1 (Or.inr w) _ _ _⟩, fun w => h0 q w _ _ _⟩⟩
theorem T49_compareSpans {post : Int → Int → Int → Int → Prop} {Y M D : Int} (ha : 0 ≤ a ∧ a < 200) (hb : 0 ≤ b ∧ b < 200) (a1 : -1000000000 ≤ on a ∧ on a ≤ 1000000000) (a2 : -1000000000000000 ≤ tw a ∧ tw a ≤ 1000000000000000) (b1 : -1000000000 ≤ on b ∧ on b ≤ 1000000000) (b2 : -1000000000000000 ≤ tw b ∧ tw b ≤ 1000000000000000)
    (hp : ∀ y m d, post (dvSs on tw a b) y m d) : wpX49_compareSpans post on tw Y M D a b := by
  unfold wpX49_compareSpans
  unfold dvSs at hp
  have D0 : -1000000 ≤ dvD0 ∧ dvD0 ≤ 1000000 := by decide
  have D1 : -1000000 ≤ dvD1 ∧ dvD1 ≤ 1000000 := by decide
  have D2 : -1000000 ≤ dvD2 ∧ dvD2 ≤ 1000000 := by decide
  have D3 : -1000000 ≤ dvD3 ∧ dvD3 ≤ 1000000 := by decide
  have five : ∀ d, ¬ dvNw on tw a b d = 5 := fun d q => by
    have := dvSgn_b (x := dvLt (86400000 * d) (on a) (tw a)) (y := dvLt (86400000 * d) (on b) (tw b))
    unfold dvNw at q; omega
  have bd := @T49_dayOf
  refine ⟨5, ?_⟩
  rw [wX49_compareSpans_5]
  refine ⟨fun q => absurd q (by decide), fun _ => ⟨fun _ => T49_dayOf (by decide) (by decide) (by decide) (T49_cs74 ha hb a1 a2 b1 b2 D0 (by decide) (fun _ y m e => ?_) (fun q => absurd rfl q)), fun q => absurd rfl q⟩⟩
  rw [wX49_compareSpans_5]
  refine ⟨fun q => absurd q (by decide), fun _ => ⟨fun q => absurd q (by decide), fun _ => ⟨fun _ => T49_dayOf (by decide) (by decide) (by decide) (T49_cs74 ha hb a1 a2 b1 b2 D1 (by decide) (fun w1 y m e => ?_) (fun _ w1 => ?_)), fun q => absurd (by decide) q⟩⟩⟩
  rotate_left
  · rw [if_neg (fun w => w1 w.1)] at hp; exact hp
  have w1 : dvNw on tw a b dvD0 = dvNw on tw a b dvD1 := w1.resolve_left (five _)
  rw [wX49_compareSpans_5]
  refine ⟨fun q => absurd q (by decide), fun _ => ⟨fun q => absurd q (by decide), fun _ => ⟨fun q => absurd q (by decide), fun _ => ⟨fun _ => T49_dayOf (by decide) (by decide) (by decide) (T49_cs74 ha hb a1 a2 b1 b2 D2 (by decide) (fun w2 y m e => ?_) (fun _ w2 => ?_)), fun q => absurd (by decide) q⟩⟩⟩⟩
  rotate_left
  · rw [if_neg (fun w => w2 w.2.1)] at hp; exact hp
  have w2 : dvNw on tw a b dvD1 = dvNw on tw a b dvD2 := w2.resolve_left (five _)
  rw [wX49_compareSpans_5]
  refine ⟨fun q => absurd q (by decide), fun _ => ⟨fun q => absurd q (by decide), fun _ => ⟨fun q => absurd q (by decide), fun _ => ⟨fun q => absurd q (by decide), fun _ => T49_dayOf (by decide) (by decide) (by decide) (T49_cs74 ha hb a1 a2 b1 b2 D3 (by decide) (fun w3 y m e => ?_) (fun _ w3 => ?_))⟩⟩⟩⟩
  rotate_left
  · rw [if_neg (fun w => w3 w.2.2)] at hp; exact hp
  have w3 : dvNw on tw a b dvD2 = dvNw on tw a b dvD3 := w3.resolve_left (five _)
  rw [wX49_compareSpans_5]
  rw [if_pos ⟨w1, w2, w3⟩] at hp
  exact ⟨fun _ => hp _ _ _, fun q => absurd (by decide) q⟩
theorem T49_cr2 {K60 : Int → Prop} {K69 : Prop} (ha : 0 ≤ a ∧ a < 200) (hb : 0 ≤ b ∧ b < 200) (oa : on a ≤ 20) (ob : on b ≤ 20) : ∀ (f : Nat) (k : Int), 0 ≤ k → 0 < (f : Int) ∧ on a - k < f → (dvCr on bt a b f k = dvSgn (on a) (on b) → K69) → (∀ r, ¬ r = 0 → dvCr on bt a b f k = r → K60 r) → wX49_compareRows_2 K60 K69 a b on bt f k
  | 0, k, hk, hf, h1, h2 => by exact absurd hf.1 (by decide)
  | f + 1, k, hk, hf, h1, h2 => by
    rw [wX49_compareRows_2]
    rw [dvCr] at h1 h2
    refine ⟨ha, fun q => h1 (if_pos (Or.inl q)), fun q => ⟨hb, fun w => h1 (if_pos (Or.inr w)), fun w => ⟨by omega, by omega, T49_sign ⟨fun z => ⟨by omega, fun k2 e2 => ?_⟩, fun z => ?_⟩⟩⟩⟩
    · rw [if_neg (by omega), if_pos z] at h1
      subst e2
      exact T49_cr2 ha hb oa ob f (k + 1) (by omega) ⟨by omega, by omega⟩ h1 (fun r hr e => h2 r hr (by rw [if_neg (by omega), if_pos z]; exact e))
    · exact h2 _ z (by rw [if_neg (by omega), if_neg z])
theorem T49_compareRows {post : Int → Prop} (ha : 0 ≤ a ∧ a < 200) (hb : 0 ≤ b ∧ b < 200) (oa : on a ≤ 20) (ob : on b ≤ 20) (hp : post (dvCr on bt a b 21 0)) : wpX49_compareRows post on bt a b := by
  unfold wpX49_compareRows
  refine ⟨21, T49_cr2 ha hb oa ob 21 0 (by decide) ⟨by decide, by show on a - 0 < 21; omega⟩ (fun e => ⟨ha, hb, T49_sign (by rw [← e]; exact hp)⟩) (fun r _ e => by rw [← e]; exact hp)⟩
theorem dv_m (hx : -1000000000 ≤ x ∧ x ≤ 1000000000) (hy : -1000000000 ≤ y ∧ y ≤ 1000000000) : -1000000000000000000 ≤ x * y ∧ x * y ≤ 1000000000000000000 := by
  have pos : ∀ y : Int, 0 ≤ y → y ≤ 1000000000 → -1000000000000000000 ≤ x * y ∧ x * y ≤ 1000000000000000000 := fun y h0 h1 => by
    have a := Int.mul_le_mul_of_nonneg_right hx.2 h0
    have b := Int.mul_le_mul_of_nonneg_right hx.1 h0
    omega
  by_cases w : 0 ≤ y
  · exact pos y w hy.2
  · have := pos (-y) (by omega) (by omega)
    rw [Int.mul_neg] at this
    omega
theorem T49_compare {post : Int → Int → Int → Int → Int → Prop} {Y M D : Int} (V : dvVs c kd on tw bt) (hp : ∀ y m d, post (dvCm kd on tw bt c a b) 0 y m d) : wpX49_compare post kd on tw bt c Y M D a b := by
  have hc := V.1
  unfold dvCm at hp
  have c98 : (0 ≤ a ∧ a < c) → (0 ≤ b ∧ b < c) → ¬ (kd a ≤ 2 ∧ kd b ≤ 2) → ¬ (6 < kd a ∧ 6 < kd b) → wX49_compare_98 post a b kd on tw 0 Y M D := fun ha hb hn h6 => by
    rw [if_neg (fun w => w ⟨ha, hb⟩), if_neg hn, if_neg h6] at hp
    have Va := (V.2 a ha.1 ha.2).1
    have Vb := (V.2 b hb.1 hb.2).1
    unfold dvOv at Va Vb
    have n1 : dvOf 1 1 1 = -719162 := by decide
    have n2 : dvOf 10000 1 1 = 2932897 := by decide
    rw [n1, n2] at Va Vb
    unfold wX49_compare_98
    refine ⟨by omega, by omega, fun e => ⟨fun k3 => T49_sign ?_, fun k3 => ⟨fun k6 => T49_compareSpans (by omega) (by omega) (by omega) (by omega) (by omega) (by omega) ?_, fun k6 => T49_compareTimes (by omega) (by omega) (by omega) (by omega) (by omega) (by omega) ?_⟩⟩, fun e => ?_⟩
    · rw [if_neg (fun w => w e), if_pos k3] at hp; exact hp _ _ _
    · rw [if_neg (fun w => w e), if_neg k3, if_pos k6] at hp; exact hp
    · rw [if_neg (fun w => w e), if_neg k3, if_neg k6] at hp; exact hp _ _ _
    · rw [if_pos e] at hp; exact hp _ _ _
  have c69 : (0 ≤ a ∧ a < c) → (0 ≤ b ∧ b < c) → ¬ (kd a ≤ 2 ∧ kd b ≤ 2) → wX49_compare_69 post a b kd on tw bt 0 Y M D := fun ha hb hn => by
    have Va := (V.2 a ha.1 ha.2).1
    have Vb := (V.2 b hb.1 hb.2).1
    unfold dvOv at Va Vb
    unfold wX49_compare_69
    refine ⟨by omega, fun q => c98 ha hb hn (by omega), fun q => ⟨by omega, fun w => c98 ha hb hn (by omega), fun w => ?_⟩⟩
    rw [if_neg (fun w => w ⟨ha, hb⟩), if_neg hn, if_pos ⟨by omega, by omega⟩] at hp
    exact T49_compareRows (by omega) (by omega) (by omega) (by omega) (hp _ _ _)
  unfold wpX49_compare
  refine T49_isV (fun a0 a1 => T49_isV (fun b0 b1 => T49_isN hc.2 (fun _ _ ka => T49_isN hc.2 (fun _ _ kb => ?_) (fun q => c69 ⟨a0, a1⟩ ⟨b0, b1⟩ (fun w => q ⟨⟨b0, b1⟩, w.2⟩))) (fun q => c69 ⟨a0, a1⟩ ⟨b0, b1⟩ (fun w => q ⟨⟨a0, a1⟩, w.1⟩))) (fun q => ?_)) (fun q => ?_)
  · rw [if_neg (fun w => w ⟨⟨a0, a1⟩, b0, b1⟩), if_pos ⟨ka, kb⟩] at hp
    have Va := (V.2 a a0 a1).1.2.1 ka
    have Vb := (V.2 b b0 b1).1.2.1 kb
    have m1 := dv_m (x := on a) (y := tw b) (by omega) (by omega)
    have m2 := dv_m (x := on b) (y := tw a) (by omega) (by omega)
    exact ⟨by omega, by omega, by omega, by omega, T49_sign (hp _ _ _)⟩
  · rw [if_pos (fun w => q w.2)] at hp; exact hp _ _ _
  · rw [if_pos (fun w => q w.1)] at hp; exact hp _ _ _
end

/-! DatatypeValues, the reference (X49): reckoned. A result is a code (negative: none is kept), a kind and two numbers -/
def dvNo : Int × Int × Int × Int := (-2, 0, 0, 0)
def dvKf (u l : Int) : Int × Int × Int × Int := if -1000000000 < Int.tdiv u (dvGc u l) ∧ Int.tdiv u (dvGc u l) < 1000000000 ∧ Int.tdiv l (dvGc u l) < 1000000000 then (0, 2, Int.tdiv u (dvGc u l), Int.tdiv l (dvGc u l)) else dvNo
def dvKs (mo mi : Int) : Int × Int × Int × Int := if (-1000000000 < mo ∧ mo < 1000000000) ∧ -1000000000000000 < mi ∧ mi < 1000000000000000 then (0, 6, mo, mi) else dvNo
def dvRk (op p q r s : Int) : Int × Int × Int × Int := if op = 0 then dvKf (p * s + r * q) (q * s) else if op = 1 then dvKf (p * s - r * q) (q * s) else if op = 2 then dvKf (p * r) (q * s) else if r = 0 then dvNo else if r < 0 then dvKf (-p * s) (-r * q) else dvKf (p * s) (r * q)
noncomputable def dvAd (kd on tw : Int → Int) (a b : Int) : Int × Int × Int × Int :=
  if 86400000 * dvOf 1 1 1 ≤ dvLt (on a) (on b) (if kd a = 4 then 86400000 * (tw b / 86400000) else tw b) ∧ dvLt (on a) (on b) (if kd a = 4 then 86400000 * (tw b / 86400000) else tw b) < 86400000 * dvOf 10000 1 1 then (0, kd a, dvLt (on a) (on b) (if kd a = 4 then 86400000 * (tw b / 86400000) else tw b), tw a) else dvNo
noncomputable def dvAp (kd on tw : Int → Int) (c op a b : Int) : Int × Int × Int × Int :=
  if (op < 0 ∨ 7 < op ∨ ¬ (0 ≤ a ∧ a < c)) ∨ ¬ op = 7 ∧ ¬ (0 ≤ b ∧ b < c) then (-1, 0, 0, 0) else
  if op < 4 then (if kd a ≤ 2 ∧ kd b ≤ 2 then dvRk op (on a) (tw a) (on b) (tw b) else dvNo) else
  if op = 7 then (if kd a = 6 then dvKs (-on a) (-tw a) else dvNo) else
  if op = 4 then (if (kd a = 4 ∨ kd a = 5) ∧ kd b = 6 then dvAd kd on tw a b else dvNo) else
  if op = 6 then (if kd a = 6 ∧ kd b = 6 then dvKs (on a + on b) (tw a + tw b) else dvNo) else
  if (kd a = 5 ∧ kd b = 5) ∧ ((tw a = 10000) ↔ (tw b = 10000)) then dvKs 0 (dvPt on tw a - dvPt on tw b) else dvNo
/-- what is said in the end -/
def dvE (kd on tw bt : Int → Int) (c : Int) (post : Int → (Int → Int) → (Int → Int) → (Int → Int) → (Int → Int) → Int → Int → Int → Int → Prop) (r : Int × Int × Int × Int) : Prop :=
  (r.1 < 0 → ∀ o t s, post r.1 kd on tw bt c o t s) ∧ (0 ≤ r.1 → c = 200 → ∀ o t s, post (-3) kd on tw bt c o t s) ∧ (0 ≤ r.1 → c < 200 → ∀ o t s, post c (updI kd c r.2.1) (updI on c r.2.2.1) (updI tw c r.2.2.2) bt (c + 1) o t s)
section
variable {kd on tw bt row : Int → Int} {c a b op u l one two rs x y kind : Int}
theorem T49_keep0 {post : Int → (Int → Int) → (Int → Int) → (Int → Int) → (Int → Int) → Int → Prop} (hc : 0 ≤ c ∧ c ≤ 200) (hk : kind ≤ 6 ∧ ¬ kind = 3) (h2 : c = 200 → post (-3) kd on tw bt c) (h : c < 200 → post c (updI kd c kind) (updI on c one) (updI tw c two) bt (c + 1)) : wpX49_keep post kd on tw bt c one two row 0 kind := by
  refine T49_keep hc (by decide) h2 (fun q => ?_)
  have e : dvBu bt c 0 row = bt := funext fun x => by unfold dvBu; rw [if_neg (by omega)]
  rw [if_pos hk.1, if_neg (by omega), e]
  exact h q
variable {post : Int → (Int → Int) → (Int → Int) → (Int → Int) → (Int → Int) → Int → Int → Int → Int → Prop}
theorem dvE.no (h : dvE kd on tw bt c post dvNo) : post (-2) kd on tw bt c one two rs := h.1 (by decide) _ _ _
theorem T49_keepFraction (hc : 0 ≤ c ∧ c ≤ 200) (hu : -9000000000000000000 ≤ u ∧ u ≤ 9000000000000000000) (hl : 0 < l ∧ l ≤ 9000000000000000000) (h : dvE kd on tw bt c post (dvKf u l)) : wpX49_keepFraction post kd on tw bt c row u l := by
  unfold wpX49_keepFraction
  have G := dvGc_b (x := u) hl.1
  have U := dv_tl (x := u) G.1
  have L := dv_tl (x := l) G.1
  unfold dvKf at h
  refine T49_divisor hu (by omega) ⟨by omega, by omega, fun one e1 => ⟨by omega, fun two e2 => ?_⟩⟩
  rw [← e1, ← e2] at h
  refine ⟨fun q => ⟨fun _ => ?_, fun w => absurd rfl w⟩, fun q => ⟨fun q2 => ⟨fun _ => ?_, fun w => absurd rfl w⟩, fun q2 => ⟨fun q3 => ⟨fun _ => ?_, fun w => absurd rfl w⟩, fun q3 => ⟨fun w => absurd w (by decide), fun _ => ?_⟩⟩⟩⟩
  · rw [if_neg (by omega)] at h; exact h.no
  · rw [if_neg (by omega)] at h; exact h.no
  · rw [if_neg (by omega)] at h; exact h.no
  · rw [if_pos (by omega)] at h
    exact T49_keep0 hc (by decide) (fun z => h.2.1 (Int.le_refl 0) z _ _ _) (fun z => h.2.2 (Int.le_refl 0) z _ _ _)
theorem T49_keepSpan (hc : 0 ≤ c ∧ c ≤ 200) (h : dvE kd on tw bt c post (dvKs x y)) : wpX49_keepSpan post kd on tw bt c one two row rs x y := by
  unfold dvKs at h
  unfold wpX49_keepSpan
  refine ⟨fun q => ?_, fun q => ⟨fun q2 => ?_, fun q2 => ⟨fun q3 => ?_, fun q3 => ⟨fun q4 => ?_, fun q4 => ?_⟩⟩⟩⟩
  · rw [if_neg (by omega)] at h; exact h.no
  · rw [if_neg (by omega)] at h; exact h.no
  · rw [if_neg (by omega)] at h; exact h.no
  · rw [if_pos (by omega)] at h
    exact T49_keep0 hc (by decide) (fun z => h.2.1 (Int.le_refl 0) z _ _ _) (fun z => h.2.2 (Int.le_refl 0) z _ _ _)
  · rw [if_neg (by omega)] at h; exact h.no
theorem T49_reckon (hc : 0 ≤ c ∧ c ≤ 200) (ha : 0 ≤ a ∧ a < 200) (hb : 0 ≤ b ∧ b < 200) (ho : 0 ≤ op ∧ op < 4) (a1 : -1000000000 < on a ∧ on a < 1000000000) (a2 : 0 < tw a ∧ tw a < 1000000000) (b1 : -1000000000 < on b ∧ on b < 1000000000) (b2 : 0 < tw b ∧ tw b < 1000000000)
    (h : dvE kd on tw bt c post (dvRk op (on a) (tw a) (on b) (tw b))) : wpX49_reckon post kd on tw bt c one two row rs op a b := by
  unfold wpX49_reckon
  unfold dvRk at h
  refine ⟨ha, fun p ep q eq => ⟨hb, fun r er s es => ?_⟩⟩
  rw [← ep, ← eq, ← er, ← es] at h
  rw [← ep] at a1
  rw [← eq] at a2
  rw [← er] at b1
  rw [← es] at b2
  have ps := dv_m (x := p) (y := s) (by omega) (by omega)
  have rq := dv_m (x := r) (y := q) (by omega) (by omega)
  have pr := dv_m (x := p) (y := r) (by omega) (by omega)
  have qs := dv_m (x := q) (y := s) (by omega) (by omega)
  have qs0 := Int.mul_pos a2.1 b2.1
  refine ⟨fun e => ⟨by omega, by omega, T49_keepFraction hc (by omega) (by omega) ?_⟩, fun e => ⟨fun e1 => ⟨by omega, by omega, T49_keepFraction hc (by omega) (by omega) ?_⟩, fun e1 => ⟨fun e2 => ⟨by omega, by omega, T49_keepFraction hc (by omega) (by omega) ?_⟩, fun e2 => ⟨fun z => ?_, fun z => ⟨fun w => ?_, fun w => ?_⟩⟩⟩⟩⟩
  · rw [if_pos e] at h; exact h
  · rw [if_neg e, if_pos e1] at h; exact h
  · rw [if_neg e, if_neg e1, if_pos e2] at h; exact h
  · rw [if_neg e, if_neg e1, if_neg e2, if_pos z] at h; exact h.no
  · rw [if_neg e, if_neg e1, if_neg e2, if_neg z, if_neg (by omega)] at h
    have rq0 := Int.mul_pos (show 0 < r by omega) a2.1
    exact ⟨by omega, by omega, T49_keepFraction hc (by omega) (by omega) h⟩
  · rw [if_neg e, if_neg e1, if_neg e2, if_neg z, if_pos (by omega)] at h
    have rq0 := Int.mul_pos (show 0 < -r by omega) a2.1
    have n1 : -p * s = -(p * s) := Int.neg_mul _ _
    have n2 : -r * q = -(r * q) := Int.neg_mul _ _
    exact ⟨by omega, by omega, T49_keepFraction hc (by omega) (by omega) h⟩
theorem T49_add {post : Int → (Int → Int) → (Int → Int) → (Int → Int) → (Int → Int) → Int → Int → Int → Int → Int → Int → Int → Prop} (hc : 0 ≤ c ∧ c ≤ 200) (ha : 0 ≤ a ∧ a < 200) (hb : 0 ≤ b ∧ b < 200) (ka : kd a = 4 ∨ kd a = 5) (a1 : -1000000000000000 ≤ on a ∧ on a ≤ 1000000000000000) (b1 : -1000000000 < on b ∧ on b < 1000000000) (b2 : -1000000000000000 < tw b ∧ tw b < 1000000000000000)
    (h : ∀ Y M D, dvE kd on tw bt c (fun r k o t b c o1 t1 s => post r k o t b c o1 t1 s Y M D) (dvAd kd on tw a b)) : wpX49_add post kd on tw bt c one two row rs a b := by
  unfold dvAd at h
  have n1 : dvOf 1 1 1 = -719162 := by decide
  have n2 : dvOf 10000 1 1 = 2932897 := by decide
  have key : ∀ mi : Int, mi = (if kd a = 4 then 86400000 * (tw b / 86400000) else tw b) → (-10000000000000000 ≤ mi ∧ mi ≤ 10000000000000000) → wX49_add_35 post a b mi kd on tw bt c one two row rs := fun mi em hm => by
    rw [← em] at h
    unfold wX49_add_35
    refine ⟨ha, hb, T49_later (by omega) (by omega) hm fun Y M D => T49_dayOf (by decide) (by decide) (by decide) ⟨by rw [n1]; decide, fun q => ?_, fun q => T49_dayOf (by decide) (by decide) (by decide) ⟨by rw [n2]; decide, fun q2 t et => ?_, fun q2 => ?_⟩⟩⟩
    · have H := h Y M D
      rw [if_neg (by omega)] at H; exact H.1 (by decide) _ _ _
    · have H := h Y M D
      rw [if_pos (by omega)] at H
      subst et
      exact T49_keep0 hc (by omega) (fun z => H.2.1 (Int.le_refl 0) z _ _ _) (fun z => H.2.2 (Int.le_refl 0) z _ _ _)
    · have H := h Y M D
      rw [if_neg (by omega)] at H; exact H.1 (by decide) _ _ _
  unfold wpX49_add
  refine ⟨ha, fun q => ⟨hb, T49_down (by decide) (by omega) ⟨by omega, key _ (by rw [if_pos q]) (by omega)⟩⟩, fun q => ⟨hb, key _ (by rw [if_neg q]) (by omega)⟩⟩
theorem T49_apply {post : Int → (Int → Int) → (Int → Int) → (Int → Int) → (Int → Int) → Int → Int → Int → Int → Int → Int → Int → Int → Prop} {Y M D : Int} (V : dvVs c kd on tw bt) (hop : zR op)
    (h : ∀ Y M D, dvE kd on tw bt c (fun r k o t b c o1 t1 s => post r k o t b c o1 t1 s 0 Y M D) (dvAp kd on tw c op a b)) : wpX49_apply post kd on tw bt c one two row rs Y M D op a b := by
  have hc := V.1
  unfold dvAp at h
  have n1 : dvOf 1 1 1 = -719162 := by decide
  have n2 : dvOf 10000 1 1 = 2932897 := by decide
  have go : (0 ≤ op ∧ op ≤ 7) → (0 ≤ a ∧ a < c) → (¬ op = 7 → 0 ≤ b ∧ b < c) → wX49_apply_39 post op a b kd on tw bt c one two row rs 0 Y M D := fun ho va vb => by
    rw [if_neg (by omega)] at h
    have Va := (V.2 a va.1 va.2).1
    unfold dvOv at Va
    rw [n1, n2] at Va
    have Vb : ¬ op = 7 → dvOv (kd b) (on b) (tw b) := fun q => (V.2 b (vb q).1 (vb q).2).1
    unfold dvOv at Vb
    rw [n1, n2] at Vb
    unfold wX49_apply_39
    refine ⟨fun o4 => ⟨fun o7 => ⟨by omega, fun ka => ⟨by omega, by omega, T49_keepSpan hc ?_⟩, fun ka => ?_⟩, fun o7 => ?_⟩, fun o4 => ?_⟩
    · have H := h Y M D
      rw [if_neg (by omega), if_pos o7, if_pos ka] at H; exact H
    · have H := h Y M D
      rw [if_neg (by omega), if_pos o7, if_neg ka] at H; exact H.no
    · have vb := vb o7
      have Vb := Vb o7
      refine ⟨fun o => ⟨by omega, fun k4 => ⟨by omega, fun k6 => ?_, fun k6 => ?_⟩, fun k4 => ⟨fun k5 => ⟨by omega, fun k6 => ?_, fun k6 => ?_⟩, fun k5 => ?_⟩⟩, fun o => ⟨fun o6 => ⟨by omega, fun k6 => ⟨by omega, fun k62 => ⟨by omega, by omega, T49_keepSpan hc ?_⟩, fun k62 => ?_⟩, fun k6 => ?_⟩, fun o6 => ?_⟩⟩
      · refine T49_add hc (by omega) (by omega) (Or.inl k4) (by omega) (by omega) (by omega) (fun Y M D => ?_)
        have H := h Y M D
        rw [if_neg (by omega), if_neg o7, if_pos o, if_pos ⟨Or.inl k4, k6⟩] at H; exact H
      · have H := h Y M D
        rw [if_neg (by omega), if_neg o7, if_pos o, if_neg (by omega)] at H; exact H.no
      · refine T49_add hc (by omega) (by omega) (Or.inr k5) (by omega) (by omega) (by omega) (fun Y M D => ?_)
        have H := h Y M D
        rw [if_neg (by omega), if_neg o7, if_pos o, if_pos ⟨Or.inr k5, k6⟩] at H; exact H
      · have H := h Y M D
        rw [if_neg (by omega), if_neg o7, if_pos o, if_neg (by omega)] at H; exact H.no
      · have H := h Y M D
        rw [if_neg (by omega), if_neg o7, if_pos o, if_neg (by omega)] at H; exact H.no
      · have H := h Y M D
        rw [if_neg (by omega), if_neg o7, if_neg o, if_pos o6, if_pos ⟨k6, k62⟩] at H; exact H
      · have H := h Y M D
        rw [if_neg (by omega), if_neg o7, if_neg o, if_pos o6, if_neg (by omega)] at H; exact H.no
      · have H := h Y M D
        rw [if_neg (by omega), if_neg o7, if_neg o, if_pos o6, if_neg (by omega)] at H; exact H.no
      · have H := h Y M D
        rw [if_neg (by omega), if_neg o7, if_neg o, if_neg o6] at H
        have yes : ((tw a = 10000) ↔ (tw b = 10000)) → wX49_apply_270 post a b 1 kd on tw bt c one two row rs 0 Y M D := fun e => by
          unfold wX49_apply_270
          refine ⟨by omega, fun k5 => ⟨by omega, fun k52 => ⟨fun z => absurd z (by decide), fun _ => T49_point (by omega) (by omega) (by omega) (T49_point (by omega) (by omega) (by omega) ⟨?_, T49_keepSpan hc ?_⟩)⟩, fun k52 => ?_⟩, fun k5 => ?_⟩
          · have pa : -2000000000000000 ≤ dvPt on tw a ∧ dvPt on tw a ≤ 2000000000000000 := by unfold dvPt; split <;> omega
            have pb : -2000000000000000 ≤ dvPt on tw b ∧ dvPt on tw b ≤ 2000000000000000 := by unfold dvPt; split <;> omega
            omega
          · rw [if_pos ⟨⟨k5, k52⟩, e⟩] at H; exact H
          · rw [if_neg (fun w => k52 w.1.2)] at H; exact H.no
          · rw [if_neg (fun w => k5 w.1.1)] at H; exact H.no
        have nay : ¬ ((tw a = 10000) ↔ (tw b = 10000)) → wX49_apply_270 post a b 0 kd on tw bt c one two row rs 0 Y M D := fun e => by
          rw [if_neg (fun w => e w.2)] at H
          unfold wX49_apply_270
          exact ⟨by omega, fun k5 => ⟨by omega, fun k52 => ⟨fun _ => H.no, fun z => absurd rfl z⟩, fun k52 => H.no⟩, fun k5 => H.no⟩
        refine ⟨by omega, fun ta => ?_, fun ta => ?_⟩
        · unfold wX49_apply_244
          exact ⟨by omega, fun tb => ⟨fun _ => yes (by omega), fun z => absurd rfl z⟩, fun tb => ⟨fun z => absurd z (by decide), fun _ => nay (by omega)⟩⟩
        · unfold wX49_apply_244
          exact ⟨by omega, fun tb => ⟨fun z => absurd z (by decide), fun _ => nay (by omega)⟩, fun tb => ⟨fun _ => yes (by omega), fun z => absurd rfl z⟩⟩
    · have vb := vb (by omega)
      have Vb := Vb (by omega)
      have H := h Y M D
      rw [if_pos (by omega)] at H
      refine T49_isN hc.2 (fun _ _ ka => T49_isN hc.2 (fun _ _ kb => ?_) (fun q => ?_)) (fun q => ?_)
      · rw [if_pos ⟨ka, kb⟩] at H
        exact T49_reckon hc (by omega) (by omega) (by omega) (Va.2.1 ka).1 (Va.2.1 ka).2 (Vb.2.1 kb).1 (Vb.2.1 kb).2 H
      · rw [if_neg (fun w => q ⟨vb, w.2⟩)] at H; exact H.no
      · rw [if_neg (fun w => q ⟨va, w.1⟩)] at H; exact H.no
  have bad : (op < 0 ∨ 7 < op ∨ ¬ (0 ≤ a ∧ a < c)) ∨ ¬ op = 7 ∧ ¬ (0 ≤ b ∧ b < c) → post (-1) kd on tw bt c one two rs 0 Y M D := fun q => by
    have H := h Y M D
    rw [if_pos q] at H
    exact H.1 (by show (-1 : Int) < 0; decide) _ _ _
  unfold wpX49_apply
  exact ⟨fun q => bad (Or.inl (Or.inl q)), fun q => ⟨fun q7 => bad (Or.inl (Or.inr (Or.inl q7))), fun q7 => T49_isV (fun a0 a1 => ⟨fun e => go (by omega) ⟨a0, a1⟩ (fun w => absurd e w), fun e => T49_isV (fun b0 b1 => go (by omega) ⟨a0, a1⟩ (fun _ => ⟨b0, b1⟩)) (fun w => bad (Or.inr ⟨e, w⟩))⟩) (fun w => bad (Or.inl (Or.inr (Or.inr w))))⟩⟩
end

/-! DatatypeValues, the reference (X49): told. What was told is a list, laid over what lay in the row -/
def dvPo (o : Int → Int) (L : List Int) : Int → Int := fun i => if 0 ≤ i ∧ i < L.length then L.getD i.toNat 0 else o i
def dvNk (v least : Int) : Nat → Nat → Nat
  | 0, n => n
  | f + 1, n => if 10 ≤ v / 10 ^ (n - 1) ∨ (n : Int) < least then dvNk v least f (n + 1) else n
def dvNd (v : Int) : Nat → List Int
  | 0 => []
  | k + 1 => (48 + v / 10 ^ k % 10) :: dvNd v k
def dvAb (v : Int) : Int := if 0 ≤ v then v else -v
def dvNm (L : List Int) (v least : Int) : List Int := (if 0 ≤ v then L else L ++ [45]) ++ dvNd (dvAb v) (dvNk (dvAb v) least 20 1)
def dvMs (L : List Int) (v : Int) : List Int := if v = 0 then L else dvNm (L ++ [46]) v 3
def dvSo (L : List Int) (v b : Int) : List Int := if v = 0 then L else dvNm L v 1 ++ [b]
def dvWd (w : Int) : Nat → List Int
  | 0 => []
  | k + 1 => (w / 2 ^ (8 * (k : Int)).toNat % 256) :: dvWd w k
section
variable {o on tw bt kd : Int → Int} {L : List Int} {b v x y c least : Int} {m : Nat} {post : (Int → Int) → Int → Prop}
theorem dvPo_n : o = dvPo o [] := funext fun i => by unfold dvPo; rw [if_neg (by show ¬ (0 ≤ i ∧ i < ((0 : Nat) : Int)); omega)]
theorem T49_put (hl : (L.length : Int) < 90) (hp : post (dvPo o (L ++ [b])) ((L ++ [b]).length : Nat)) : wpX49_put post (dvPo o L) (L.length : Nat) b := by
  unfold wpX49_put
  refine ⟨by omega, fun o2 e2 => ⟨by omega, fun s es => ?_⟩⟩
  have e1 : ((L ++ [b]).length : Int) = s := by rw [List.length_append, es]; rfl
  have e : o2 = dvPo o (L ++ [b]) := by
    rw [e2]
    refine funext fun i => ?_
    unfold updI dvPo
    rw [e1, es]
    by_cases w : i = (L.length : Int)
    · rw [if_pos w, if_pos (by omega), w, show ((L.length : Nat) : Int).toNat = L.length by omega, List.getD_eq_getElem?_getD, List.getElem?_append_right (Nat.le_refl _), Nat.sub_self]; rfl
    · rw [if_neg w]
      by_cases w2 : 0 ≤ i ∧ i < (L.length : Int)
      · rw [if_pos w2, if_pos (by omega), List.getD_eq_getElem?_getD, List.getD_eq_getElem?_getD, List.getElem?_append_left (by omega)]
      · rw [if_neg w2, if_neg (by omega)]
  rw [e, ← e1]; exact hp
theorem dv10_s {n : Nat} : (10 : Int) ^ (n + 1) = 10 * 10 ^ n := by rw [Int.pow_succ]; omega
theorem dv10_p : ∀ n : Nat, (0 : Int) < 10 ^ n
  | 0 => by decide
  | n + 1 => by have := dv10_p n; rw [dv10_s]; omega
theorem dv10_m {n : Nat} : ∀ k : Nat, (10 : Int) ^ n ≤ 10 ^ (n + k)
  | 0 => Int.le_refl _
  | k + 1 => by have := dv10_m (n := n) k; have := dv10_p (n + k); rw [← Nat.add_assoc, dv10_s]; omega
theorem dv10_16 {n : Nat} (h : n ≤ 16) : (10 : Int) ^ n ≤ 10000000000000000 := by
  have := dv10_m (n := n) (16 - n)
  rw [show n + (16 - n) = 16 by omega] at this
  exact this
theorem dvNk_1 {n : Nat} (h0 : 0 ≤ v) (hv : v < 10 ^ m) (hl : least ≤ m) (n1 : 1 ≤ n) (nm : n ≤ m) (h : 10 ≤ v / 10 ^ (n - 1) ∨ (n : Int) < least) : n < m := by
  refine Nat.lt_of_le_of_ne nm fun e => ?_
  subst e
  have p : (10 : Int) ^ n = 10 * 10 ^ (n - 1) := by rw [← dv10_s, show n - 1 + 1 = n by omega]
  have := Int.ediv_lt_of_lt_mul (dv10_p (n - 1)) (show v < 10 * 10 ^ (n - 1) by omega)
  omega
theorem dvNk_b (h0 : 0 ≤ v) (hv : v < 10 ^ m) (hl : least ≤ m) : ∀ (f n : Nat), 1 ≤ n → n ≤ m → n ≤ dvNk v least f n ∧ dvNk v least f n ≤ m
  | 0, n, n1, nm => ⟨Nat.le_refl _, nm⟩
  | f + 1, n, n1, nm => by
    rw [dvNk]
    by_cases w : 10 ≤ v / 10 ^ (n - 1) ∨ (n : Int) < least
    · rw [if_pos w]
      have l := dvNk_1 h0 hv hl n1 nm w
      have := dvNk_b h0 hv hl f (n + 1) (by omega) (by omega)
      omega
    · rw [if_neg w]; omega
theorem dvNd_l : ∀ k : Nat, (dvNd v k).length = k
  | 0 => rfl
  | k + 1 => by show (dvNd v k).length + 1 = k + 1; rw [dvNd_l k]
theorem T49_n32 {K : Int → Int → Prop} (h0 : 0 ≤ v) (hv : v < 10 ^ m) (hl : least ≤ m) (hm : m ≤ 15) : ∀ (f n : Nat), 1 ≤ n → n ≤ m → m ≤ n + f → K (10 ^ (dvNk v least f n - 1)) (dvNk v least f n : Nat) → wX49_putNumber_32 K least v (f + 1) (10 ^ (n - 1)) (n : Nat) := fun f => by
  have step : ∀ (f n : Nat), 1 ≤ n → n ≤ m → (10 ≤ v / 10 ^ (n - 1) ∨ (n : Int) < least → wX49_putNumber_32 K least v f (10 ^ (n + 1 - 1)) ((n + 1 : Nat) : Int)) → (¬ (10 ≤ v / 10 ^ (n - 1) ∨ (n : Int) < least) → K (10 ^ (n - 1)) (n : Nat)) → wX49_putNumber_32 K least v (f + 1) (10 ^ (n - 1)) (n : Nat) := fun f n n1 nm h1 h2 => by
    rw [wX49_putNumber_32]
    have p0 := dv10_p (n - 1)
    have p1 := dv10_16 (n := n - 1) (by omega)
    have vb := dv10_16 (n := m) (by omega)
    have e10 : (10 : Int) * 10 ^ (n - 1) = 10 ^ (n + 1 - 1) := by rw [← dv10_s, show n - 1 + 1 = n by omega, Nat.add_sub_cancel]
    have q0 : 0 ≤ v / 10 ^ (n - 1) := Int.ediv_nonneg h0 (by omega)
    have q1 : v / 10 ^ (n - 1) ≤ v := Int.ediv_le_self _ h0
    have td : Int.tdiv v (10 ^ (n - 1)) = v / 10 ^ (n - 1) := Int.tdiv_eq_ediv_of_nonneg h0
    dsimp only
    rw [td]
    have en : ((n + 1 : Nat) : Int) = (n : Int) + 1 := by omega
    refine ⟨by omega, by omega, fun q => ⟨by omega, fun u eu => ⟨by omega, fun n2 e2 => ?_⟩⟩, fun q => ⟨fun q2 => h2 (by omega), fun q2 => ⟨by omega, fun u eu => ⟨by omega, fun n2 e2 => ?_⟩⟩⟩⟩
    · rw [eu, e2, e10, ← en]; exact h1 (Or.inl q)
    · rw [eu, e2, e10, ← en]; exact h1 (Or.inr (by omega))
  induction f with
  | zero =>
    intro n n1 nm nf hk
    exact step 0 n n1 nm (fun w => absurd (dvNk_1 h0 hv hl n1 nm w) (by omega)) (fun _ => hk)
  | succ f ih =>
    intro n n1 nm nf hk
    rw [dvNk] at hk
    refine step (f + 1) n n1 nm (fun w => ?_) (fun w => ?_)
    · have l := dvNk_1 h0 hv hl n1 nm w
      rw [if_pos w] at hk
      exact ih (n + 1) (by omega) (by omega) (by omega) hk
    · rw [if_neg w] at hk; exact hk
theorem T49_n67 {K : (Int → Int) → Int → Prop} {N : Int} (h0 : 0 ≤ v) (hv : v < 10000000000000000) (hN : N ≤ 16) : ∀ (j : Nat) (k u : Int) (L : List Int), 0 ≤ k → k = N - j → u = (if j = 0 then 0 else 10 ^ (j - 1)) → (L.length : Int) + j ≤ 90 → K (dvPo o (L ++ dvNd v j)) ((L ++ dvNd v j).length : Nat) → wX49_putNumber_67 K v N (j + 1) u k (dvPo o L) (L.length : Nat)
  | 0, k, u, L, hk, ek, eu, hl, h => by
    rw [wX49_putNumber_67]
    have e : L ++ dvNd v 0 = L := List.append_nil L
    rw [e] at h
    exact ⟨fun _ => h, fun q => absurd (by omega) q⟩
  | j + 1, k, u, L, hk, ek, eu, hl, h => by
    rw [wX49_putNumber_67]
    rw [if_neg (by omega), Nat.add_sub_cancel] at eu
    have p0 := dv10_p j
    have p1 := dv10_16 (n := j) (by omega)
    have q0 : 0 ≤ v / 10 ^ j := Int.ediv_nonneg h0 (by omega)
    have q1 : v / 10 ^ j ≤ v := Int.ediv_le_self _ h0
    subst eu
    rw [Int.tdiv_eq_ediv_of_nonneg h0]
    refine ⟨fun q => by omega, fun q => ⟨by omega, by omega, q0, by omega, T49_put (by omega) ⟨by omega, fun u2 e2 => ⟨by omega, fun k2 e3 => ?_⟩⟩⟩⟩
    refine T49_n67 h0 hv hN j k2 u2 (L ++ [48 + v / 10 ^ j % 10]) (by omega) (by omega) ?_ (by rw [List.length_append]; show ((L.length + 1 : Nat) : Int) + j ≤ 90; omega) (by rw [List.append_assoc]; exact h)
    rw [e2]
    cases j with
    | zero => rfl
    | succ i => rw [if_neg (by omega), dv10_s, Nat.add_sub_cancel]; omega
theorem T49_n12 (h0 : 0 ≤ dvAb v) (hv : dvAb v < 10 ^ m) (hl : least ≤ m) (hm : 1 ≤ m ∧ m ≤ 15) (hs : (L.length : Int) + m ≤ 90) (hp : post (dvPo o (L ++ dvNd (dvAb v) (dvNk (dvAb v) least 20 1))) ((L ++ dvNd (dvAb v) (dvNk (dvAb v) least 20 1)).length : Nat)) : wX49_putNumber_12 post v least (dvPo o L) (L.length : Nat) := by
  have vb := dv10_16 (n := m) (by omega)
  have nb := dvNk_b h0 hv hl 20 1 (Nat.le_refl 1) hm.1
  have go : ∃ fu : Nat, wX49_putNumber_32 (fun (x6_20 : Int) (x8_21 : Int) => (∃ fu : Nat, wX49_putNumber_67 (fun (f_out_39 : Int → Int) (f_outSize_40 : Int) => post f_out_39 f_outSize_40) (dvAb v) x8_21 fu x6_20 0 (dvPo o L) (L.length : Nat))) least (dvAb v) fu 1 1 := by
    refine ⟨21, T49_n32 h0 hv hl hm.2 20 1 (Nat.le_refl 1) hm.1 (by omega) ⟨dvNk (dvAb v) least 20 1 + 1, ?_⟩⟩
    exact T49_n67 h0 (by omega) (by omega) _ 0 _ L (by decide) (by omega) (by rw [if_neg (by omega)]) (by omega) hp
  unfold wX49_putNumber_12
  refine ⟨fun q => ?_, fun q => ⟨by unfold dvAb at h0 hv; rw [if_neg q] at hv h0; omega, fun w ew => ?_⟩⟩
  · unfold dvAb at go; rw [if_pos q] at go; exact go
  · unfold dvAb at go; rw [if_neg q, ← ew] at go; exact go
theorem T49_putNumber (m : Nat) (hv : -10 ^ m < v ∧ v < 10 ^ m) (hl : least ≤ m) (hm : 1 ≤ m ∧ m ≤ 15) (hs : (L.length : Int) + m < 90) (hp : post (dvPo o (dvNm L v least)) ((dvNm L v least).length : Nat)) : wpX49_putNumber post (dvPo o L) (L.length : Nat) v least := by
  have h0 : 0 ≤ dvAb v := by unfold dvAb; split <;> omega
  have h1 : dvAb v < 10 ^ m := by unfold dvAb; split <;> omega
  unfold dvNm at hp
  unfold wpX49_putNumber
  refine ⟨fun q => ?_, fun q => T49_put (by omega) ?_⟩
  · rw [if_pos q] at hp
    exact T49_n12 h0 h1 hl hm (by omega) hp
  · rw [if_neg q] at hp
    exact T49_n12 h0 h1 hl hm (by rw [List.length_append]; show ((L.length + 1 : Nat) : Int) + m ≤ 90; omega) hp
theorem dvNm_l (m : Nat) (hv : -10 ^ m < v ∧ v < 10 ^ m) (hl : least ≤ m) (hm : 1 ≤ m) : ((dvNm L v least).length : Int) ≤ L.length + m + 1 := by
  have h0 : 0 ≤ dvAb v := by unfold dvAb; split <;> omega
  have h1 : dvAb v < 10 ^ m := by unfold dvAb; split <;> omega
  have nb := dvNk_b h0 h1 hl 20 1 (Nat.le_refl 1) hm
  unfold dvNm
  rw [List.length_append, dvNd_l]
  split
  · omega
  · rw [List.length_append]
    show ((L.length + 1 + dvNk (dvAb v) least 20 1 : Nat) : Int) ≤ L.length + m + 1
    omega
theorem dvL1 : ((L ++ [b]).length : Int) = L.length + 1 := by rw [List.length_append]; rfl
theorem T49_putMillis (hv : 0 ≤ v ∧ v < 1000) (hs : (L.length : Int) + 5 < 90) (hp : post (dvPo o (dvMs L v)) ((dvMs L v).length : Nat)) : wpX49_putMillis post (dvPo o L) (L.length : Nat) v := by
  unfold dvMs at hp
  unfold wpX49_putMillis
  refine ⟨fun q => ?_, fun q => T49_put (by omega) (T49_putNumber 3 (by omega) (by decide) (by decide) (by rw [dvL1]; omega) ?_)⟩
  · rw [if_pos q] at hp; exact hp
  · rw [if_neg q] at hp; exact hp
theorem dvMs_l (hv : 0 ≤ v ∧ v < 1000) : ((dvMs L v).length : Int) ≤ L.length + 5 := by
  unfold dvMs
  split
  · omega
  · have := dvNm_l (L := L ++ [46]) (v := v) (least := 3) 3 (by omega) (by decide) (by decide)
    rw [dvL1] at this; omega
theorem T49_putSome (m : Nat) (hv : -10 ^ m < v ∧ v < 10 ^ m) (hm : 1 ≤ m ∧ m ≤ 15) (hs : (L.length : Int) + m + 1 < 90) (hp : post (dvPo o (dvSo L v b)) ((dvSo L v b).length : Nat)) : wpX49_putSome post (dvPo o L) (L.length : Nat) v b := by
  unfold dvSo at hp
  unfold wpX49_putSome
  have := dvNm_l (L := L) (v := v) (least := 1) m hv (by omega) hm.1
  refine ⟨fun q => ?_, fun q => T49_putNumber m hv (by omega) hm (by omega) (T49_put (by omega) ?_)⟩
  · rw [if_pos q] at hp; exact hp
  · rw [if_neg q] at hp; exact hp
theorem dvSo_l (m : Nat) (hv : -10 ^ m < v ∧ v < 10 ^ m) (hm : 1 ≤ m) : ((dvSo L v b).length : Int) ≤ L.length + m + 2 := by
  unfold dvSo
  split
  · omega
  · have := dvNm_l (L := L) (v := v) (least := 1) m hv (by omega) hm
    rw [dvL1]; omega
theorem T49_putTruth25 {K : (Int → Int) → Int → Prop} {w : Int} (hw : 0 ≤ w) : ∀ (j : Nat) (L : List Int), j ≤ 5 → (L.length : Int) + j ≤ 90 → K (dvPo o (L ++ dvWd w j)) ((L ++ dvWd w j).length : Nat) → wX49_putTruth_25 K w (j + 1) ((j : Int) - 1) (dvPo o L) (L.length : Nat)
  | 0, L, hj, hl, h => by
    rw [wX49_putTruth_25]
    have e : L ++ dvWd w 0 = L := List.append_nil L
    rw [e] at h
    exact ⟨fun _ => h, fun q => absurd (by decide) q⟩
  | j + 1, L, hj, hl, h => by
    rw [wX49_putTruth_25, show ((j + 1 : Nat) : Int) - 1 = (j : Int) by omega]
    refine ⟨fun q => by omega, fun q => ⟨by omega, by omega, by omega, T49_put (by omega) ⟨by omega, fun x4 e4 => ?_⟩⟩⟩
    rw [e4]
    exact T49_putTruth25 hw j _ (by omega) (by rw [dvL1]; omega) (by rw [List.append_assoc]; exact h)
def dvTw (L : List Int) (x : Int) : List Int := if x = 0 then L ++ dvWd 439721161573 5 else L ++ dvWd 1953658213 4
theorem T49_putTruth (hs : (L.length : Int) + 5 ≤ 90) (hp : post (dvPo o (dvTw L x)) ((dvTw L x).length : Nat)) : wpX49_putTruth post (dvPo o L) (L.length : Nat) x := by
  unfold dvTw at hp
  unfold wpX49_putTruth
  refine ⟨fun q => ⟨fun _ => ⟨6, ?_⟩, fun w => absurd q w⟩, fun q => ⟨fun w => absurd w q, fun _ => ⟨5, ?_⟩⟩⟩
  · rw [if_pos q] at hp
    exact T49_putTruth25 (by decide) 5 L (by decide) hs hp
  · rw [if_neg q] at hp
    exact T49_putTruth25 (by decide) 4 L (by decide) (by omega) hp
end

/-! DatatypeValues, the reference (X49): times, spans, rows of bytes, told -/
noncomputable def dvTd (L : List Int) (d : Int) : List Int := dvNm (dvNm (dvNm L (dvYy d) 4 ++ [45]) (dvMm d) 2 ++ [45]) (dvDd d) 2
def dvTc (L : List Int) (r : Int) : List Int := dvMs (dvNm (dvNm (dvNm (L ++ [84]) (r / 3600000) 2 ++ [58]) (r / 60000 % 60) 2 ++ [58]) (r / 1000 % 60) 2) (r % 1000)
def dvTz (L : List Int) (z : Int) : List Int := if z = 0 then L ++ [90] else if z = 10000 then L else dvNm (dvNm (L ++ [if 0 ≤ z then 43 else 45]) (dvAb z / 60) 2 ++ [58]) (dvAb z % 60) 2
noncomputable def dvTt (L : List Int) (kind one two : Int) : List Int := dvTz (if kind = 5 then dvTc (dvTd L (one / 86400000)) (one % 86400000) else dvTd L (one / 86400000)) two
/-- a span of either sign, of months m and millis i both of it -/
def dvTs (L : List Int) (m i : Int) : List Int :=
  if i % 86400000 = 0 ∧ ¬ (m = 0 ∧ i = 0) then dvSo (dvSo (dvSo L (m / 12) 89) (m % 12) 77) (i / 86400000) 68 else
  if i % 86400000 % 60000 = 0 ∧ ¬ (m = 0 ∧ i = 0) then dvSo (dvSo (dvSo (dvSo (dvSo L (m / 12) 89) (m % 12) 77) (i / 86400000) 68 ++ [84]) (i % 86400000 / 3600000) 72) (i % 86400000 / 60000 % 60) 77 else
  dvMs (dvNm (dvSo (dvSo (dvSo (dvSo (dvSo L (m / 12) 89) (m % 12) 77) (i / 86400000) 68 ++ [84]) (i % 86400000 / 3600000) 72) (i % 86400000 / 60000 % 60) 77) (i % 86400000 / 1000 % 60) 1) (i % 86400000 % 1000) ++ [83]
/-- a span of two signs -/
def dvTx (L : List Int) (m i : Int) : List Int := dvNm (dvNm (if 0 ≤ i then dvNm (L ++ [80]) m 1 ++ [77] ++ [84] else dvNm (L ++ [80]) m 1 ++ [77] ++ [84] ++ [45]) (dvAb i / 1000) 1 ++ [46]) (dvAb i % 1000) 3 ++ [83]
def dvTp (L : List Int) (m i : Int) : List Int := if m < 0 ∧ 0 < i ∨ 0 < m ∧ i < 0 then dvTx L m i else if m < 0 ∨ i < 0 then dvTs (L ++ [45] ++ [80]) (-m) (-i) else dvTs (L ++ [80]) m i
def dvHc (d : Int) : Int := if 10 ≤ d then 65 + d - 10 else 48 + d
def dvHr (bt : Int → Int) (v : Int) : Nat → Int → List Int → List Int
  | 0, _, L => L
  | j + 1, k, L => dvHr bt v j (k + 1) (L ++ [dvHc (bt (20 * v + k) / 16)] ++ [dvHc (bt (20 * v + k) % 16)])
def dvLe (x : Int) : Int := if 26 ≤ x then (if 52 ≤ x then (if 62 ≤ x then (if x = 62 then 43 else 47) else 48 + x - 52) else 97 + x - 26) else 65 + x
def dvBg (a b c lf : Int) (L : List Int) : List Int := L ++ [dvLe (a / 4)] ++ [dvLe (a % 4 * 16 + b / 16)] ++ [if lf ≤ 1 then 61 else dvLe (b % 16 * 4 + c / 64)] ++ [if lf ≤ 2 then 61 else dvLe (c % 64)]
def dvBr (bt : Int → Int) (v n : Int) : Nat → Int → List Int → List Int
  | 0, _, L => L
  | j + 1, k, L => if n ≤ k then L else dvBr bt v n j (k + 3) (dvBg (bt (20 * v + k)) (if n - k ≤ 1 then 0 else bt (20 * v + k + 1)) (if n - k ≤ 2 then 0 else bt (20 * v + k + 2)) (n - k) L)
noncomputable def dvTl (kd on tw bt : Int → Int) (v : Int) : List Int :=
  if kd v = 3 then dvTw [] (if on v = 1 then 1 else 0) else if kd v = 4 ∨ kd v = 5 then dvTt [] (kd v) (on v) (tw v) else if kd v = 6 then dvTp [] (on v) (tw v) else
  if kd v = 7 then dvHr bt v (on v).toNat 0 [] else if kd v = 8 then dvBr bt v (on v) 8 0 [] else if tw v = 1 then dvNm [] (on v) 1 else dvNm (dvNm [] (on v) 1 ++ [47]) (tw v) 1
section
variable {o on tw bt kd : Int → Int} {L : List Int} {b v x y c n lf a : Int} {post : (Int → Int) → Int → Prop}
theorem dvTd_b {d : Int} (h : dvOf 1 1 1 ≤ d ∧ d < dvOf 10000 1 1) : (0 ≤ dvYy d ∧ dvYy d ≤ 10000) ∧ (1 ≤ dvMm d ∧ dvMm d ≤ 12) ∧ 1 ≤ dvDd d ∧ dvDd d ≤ 31 := by
  have n1 : dvOf 1 1 1 = -719162 := by decide
  have n2 : dvOf 10000 1 1 = 2932897 := by decide
  rw [n1, n2] at h
  have F := (dvF_ok d).1
  have Lb := dvLn_b (y := dvYy d) (m := dvMm d)
  have F1 := F.1
  have F2 := F.2
  refine ⟨?_, by omega, by omega⟩
  have Y := (dvQy_s (o := (d + 719468) % 146097) (by omega)).1
  unfold dvYy
  split <;> omega
theorem T49_putTime {post : (Int → Int) → Int → Int → Int → Int → Prop} (hv : 0 ≤ v ∧ v < 200) (hs : L.length = 0) (h1 : 86400000 * dvOf 1 1 1 ≤ on v ∧ on v < 86400000 * dvOf 10000 1 1) (h2 : tw v = 10000 ∨ (-900 ≤ tw v ∧ tw v ≤ 900)) (hp : ∀ Y M D, post (dvPo o (dvTt L (kd v) (on v) (tw v))) ((dvTt L (kd v) (on v) (tw v)).length : Nat) Y M D) : wpX49_putTime post kd on tw (dvPo o L) (L.length : Nat) v := by
  have n1 : dvOf 1 1 1 = -719162 := by decide
  have n2 : dvOf 10000 1 1 = 2932897 := by decide
  have db := dvTd_b (d := on v / 86400000) (by rw [n1, n2] at h1 ⊢; omega)
  rw [n1, n2] at h1
  -- the zone
  have zone : ∀ (L' : List Int) (z Y M D : Int), (L'.length : Int) ≤ 60 → z = tw v → (∀ Y M D, post (dvPo o (dvTz L' (tw v))) ((dvTz L' (tw v)).length : Nat) Y M D) → ((z = 0 → (wpX49_put (fun (f_out_48 : Int → Int) (f_outSize_49 : Int) => (wX49_putTime_164 post z f_out_48 f_outSize_49 Y M D)) (dvPo o L') (L'.length : Nat) 90)) ∧ (¬ z = 0 → (wX49_putTime_164 post z (dvPo o L') (L'.length : Nat) Y M D))) := fun L' z Y M D hl ez hp => by
    rw [← ez] at hp h2
    unfold dvTz at hp
    refine ⟨fun z0 => T49_put (by omega) ?_, fun z0 => ?_⟩
    · rw [if_pos z0] at hp
      unfold wX49_putTime_164
      exact ⟨fun _ => hp _ _ _, fun q => absurd z0 q⟩
    · rw [if_neg z0] at hp
      unfold wX49_putTime_164
      refine ⟨fun q => absurd q z0, fun _ => ⟨fun q => ?_, fun q => ?_⟩⟩
      · rw [if_pos q] at hp; exact hp _ _ _
      · rw [if_neg q] at hp
        have ab : 0 ≤ dvAb z ∧ dvAb z ≤ 900 := by unfold dvAb; split <;> omega
        have fin : ∀ sg : Int, sg = (if 0 ≤ z then 43 else 45) → wX49_putTime_208 post (dvAb z) (dvPo o (L' ++ [sg])) ((L' ++ [sg]).length : Nat) Y M D := fun sg es => by
          rw [← es] at hp
          unfold wX49_putTime_208
          have l1 := dvL1 (L := L') (b := sg)
          have l2 := dvNm_l (L := L' ++ [sg]) (v := dvAb z / 60) (least := 2) 2 (by omega) (by decide) (by decide)
          have l3 := dvL1 (L := dvNm (L' ++ [sg]) (dvAb z / 60) 2) (b := 58)
          exact ⟨ab.1, T49_putNumber 2 (by omega) (by decide) (by decide) (by omega) (T49_put (by omega) (T49_putNumber 2 (by omega) (by decide) (by decide) (by omega) (hp _ _ _)))⟩
        refine ⟨fun w => T49_put (by omega) ⟨fun _ => ?_, fun w2 => absurd w w2⟩, fun w => T49_put (by omega) ⟨fun w2 => absurd w2 w, fun _ => ⟨by omega, ?_⟩⟩⟩
        · have := fin 43 (by rw [if_pos w])
          rw [show dvAb z = z by unfold dvAb; rw [if_pos w]] at this
          exact this
        · have := fin 45 (by rw [if_neg w])
          rw [show dvAb z = -z by unfold dvAb; rw [if_neg w]] at this
          exact this
  unfold dvTt at hp
  have a1 := dvNm_l (L := L) (v := dvYy (on v / 86400000)) (least := 4) 5 (by omega) (by decide) (by decide)
  have a2 := dvL1 (L := dvNm L (dvYy (on v / 86400000)) 4) (b := 45)
  have a3 := dvNm_l (L := dvNm L (dvYy (on v / 86400000)) 4 ++ [45]) (v := dvMm (on v / 86400000)) (least := 2) 2 (by omega) (by decide) (by decide)
  have a4 := dvL1 (L := dvNm (dvNm L (dvYy (on v / 86400000)) 4 ++ [45]) (dvMm (on v / 86400000)) 2) (b := 45)
  have a5 := dvNm_l (L := dvNm (dvNm L (dvYy (on v / 86400000)) 4 ++ [45]) (dvMm (on v / 86400000)) 2 ++ [45]) (v := dvDd (on v / 86400000)) (least := 2) 2 (by omega) (by decide) (by decide)
  unfold wpX49_putTime
  refine ⟨hv, T49_down (by decide) (by omega) (T49_findDate (by omega) (T49_putNumber 5 (by omega) (by decide) (by decide) (by omega) (T49_put (by omega) (T49_putNumber 2 (by omega) (by decide) (by decide) (by omega) (T49_put (by omega) (T49_putNumber 2 (by omega) (by decide) (by decide) (by omega) ⟨fun k5 => T49_rest (by decide) (by decide) (by omega) ?_, fun k5 z ez => ?_⟩))))))⟩
  · rw [if_pos k5] at hp
    unfold dvTc at hp
    have r0 : 0 ≤ on v % 86400000 ∧ on v % 86400000 < 86400000 := by omega
    generalize on v % 86400000 = r at r0 hp ⊢
    have e5 : ((dvTd L (on v / 86400000)).length : Int) ≤ L.length + 15 := by unfold dvTd; omega
    show wpX49_put _ (dvPo o (dvTd L (on v / 86400000))) ((dvTd L (on v / 86400000)).length : Nat) 84
    generalize dvTd L (on v / 86400000) = T at e5 hp ⊢
    have b1 := dvL1 (L := T) (b := 84)
    have b2 := dvNm_l (L := T ++ [84]) (v := r / 3600000) (least := 2) 2 (by omega) (by decide) (by decide)
    have b3 := dvL1 (L := dvNm (T ++ [84]) (r / 3600000) 2) (b := 58)
    have b4 := dvNm_l (L := dvNm (T ++ [84]) (r / 3600000) 2 ++ [58]) (v := r / 60000 % 60) (least := 2) 2 (by omega) (by decide) (by decide)
    have b5 := dvL1 (L := dvNm (dvNm (T ++ [84]) (r / 3600000) 2 ++ [58]) (r / 60000 % 60) 2) (b := 58)
    have b6 := dvNm_l (L := dvNm (dvNm (T ++ [84]) (r / 3600000) 2 ++ [58]) (r / 60000 % 60) 2 ++ [58]) (v := r / 1000 % 60) (least := 2) 2 (by omega) (by decide) (by decide)
    have b7 := dvMs_l (L := dvNm (dvNm (dvNm (T ++ [84]) (r / 3600000) 2 ++ [58]) (r / 60000 % 60) 2 ++ [58]) (r / 1000 % 60) 2) (v := r % 1000) (by omega)
    exact T49_put (by omega) ⟨r0.1, T49_putNumber 2 (by omega) (by decide) (by decide) (by omega) (T49_put (by omega) ⟨by omega, T49_putNumber 2 (by omega) (by decide) (by decide) (by omega) (T49_put (by omega) ⟨by omega, T49_putNumber 2 (by omega) (by decide) (by decide) (by omega) (T49_putMillis (by omega) (by omega) (fun z ez => zone _ z _ _ _ (by omega) ez hp))⟩)⟩)⟩
  · rw [if_neg k5] at hp
    exact zone (dvTd L (on v / 86400000)) z _ _ _ (by unfold dvTd; omega) ez hp
theorem T49_putHex2 {K : (Int → Int) → Int → Prop} (hv : 0 ≤ v ∧ v < 200) (ho : on v ≤ 20) (hb : ∀ k, 0 ≤ k → k < on v → 0 ≤ bt (20 * v + k) ∧ bt (20 * v + k) < 256) : ∀ (j : Nat) (k : Int) (L : List Int), 0 ≤ k → k + j = on v → (L.length : Int) + 2 * j ≤ 90 → K (dvPo o (dvHr bt v j k L)) ((dvHr bt v j k L).length : Nat) → wX49_putHex_2 K v on bt (j + 1) k (dvPo o L) (L.length : Nat)
  | 0, k, L, hk, ek, hl, h => by
    rw [wX49_putHex_2]
    exact ⟨hv, fun _ => h, fun q => absurd (by omega) q⟩
  | j + 1, k, L, hk, ek, hl, h => by
    rw [wX49_putHex_2]
    refine ⟨hv, fun q => by omega, fun q => ⟨by omega, fun w ew => ?_⟩⟩
    have B := hb k hk (by omega)
    rw [dvHr] at h
    rw [← ew] at B h
    have l1 := dvL1 (L := L) (b := dvHc (w / 16))
    have l2 := dvL1 (L := L ++ [dvHc (w / 16)]) (b := dvHc (w % 16))
    have two : ∀ y1, y1 = dvHc (w / 16) → wX49_putHex_56 (wX49_putHex_2 K v on bt (j + 1)) k w y1 (dvPo o L) (L.length : Nat) := fun y1 e1 => by
      subst e1
      unfold wX49_putHex_56
      have ih := T49_putHex2 (K := K) hv ho hb j (k + 1) (L ++ [dvHc (w / 16)] ++ [dvHc (w % 16)]) (by omega) (by omega) (by omega) h
      have fin : ∀ y2, y2 = dvHc (w % 16) → wpX49_put (fun (f_out_27 : Int → Int) (f_outSize_28 : Int) => (zR (k + 1) ∧ (∀ x2_29 : Int, x2_29 = k + 1 → (wX49_putHex_2 K v on bt (j + 1) x2_29 f_out_27 f_outSize_28)))) (dvPo o (L ++ [dvHc (w / 16)])) ((L ++ [dvHc (w / 16)]).length : Nat) y2 := fun y2 e2 => by
        subst e2
        exact T49_put (by omega) ⟨by omega, fun k2 e3 => by subst e3; exact ih⟩
      exact T49_put (by omega) ⟨B.1, fun q => ⟨by omega, fin _ (by unfold dvHc; rw [if_pos q])⟩, fun q => ⟨by omega, fin _ (by unfold dvHc; rw [if_neg q])⟩⟩
    exact ⟨B.1, fun q => ⟨by omega, two _ (by unfold dvHc; rw [if_pos q])⟩, fun q => ⟨by omega, two _ (by unfold dvHc; rw [if_neg q])⟩⟩
theorem T49_putHex (hv : 0 ≤ v ∧ v < 200) (ho : 0 ≤ on v ∧ on v ≤ 20) (hb : ∀ k, 0 ≤ k → k < on v → 0 ≤ bt (20 * v + k) ∧ bt (20 * v + k) < 256) (hs : L.length = 0) (hp : post (dvPo o (dvHr bt v (on v).toNat 0 L)) ((dvHr bt v (on v).toNat 0 L).length : Nat)) : wpX49_putHex post on bt (dvPo o L) (L.length : Nat) v := by
  unfold wpX49_putHex
  exact ⟨(on v).toNat + 1, T49_putHex2 hv ho.2 hb _ 0 L (by decide) (by omega) (by omega) hp⟩
theorem T49_letter {post : Int → Prop} (hx : 0 ≤ x ∧ x < 64) (hp : post (dvLe x)) : wpX49_letter post x := by
  unfold dvLe at hp
  unfold wpX49_letter
  refine ⟨fun q => ⟨fun q2 => ⟨fun q3 => ⟨fun q4 => ?_, fun q4 => ?_⟩, fun q3 => ⟨by omega, ?_⟩⟩, fun q2 => ⟨by omega, ?_⟩⟩, fun q => ⟨by omega, ?_⟩⟩
  · rw [if_pos q, if_pos q2, if_pos q3, if_pos q4] at hp; exact hp
  · rw [if_pos q, if_pos q2, if_pos q3, if_neg q4] at hp; exact hp
  · rw [if_pos q, if_pos q2, if_neg q3] at hp; exact hp
  · rw [if_pos q, if_neg q2] at hp; exact hp
  · rw [if_neg q] at hp; exact hp
theorem T49_pb143 {K2 : Int → (Int → Int) → Int → Prop} {k y1 : Int} (hk : 0 ≤ k ∧ k ≤ 100) (hc : 0 ≤ c ∧ c < 256) (hl : (L.length : Int) + 2 ≤ 90) (h : K2 (k + 3) (dvPo o (L ++ [y1] ++ [if lf ≤ 2 then 61 else dvLe (c % 64)])) ((L ++ [y1] ++ [if lf ≤ 2 then 61 else dvLe (c % 64)]).length : Nat)) : wX49_putBase_143 K2 k lf c y1 (dvPo o L) (L.length : Nat) := by
  unfold wX49_putBase_143
  have l1 := dvL1 (L := L) (b := y1)
  refine T49_put (by omega) ⟨fun q => ?_, fun q => ⟨hc.1, T49_letter (by omega) ?_⟩⟩
  · rw [if_pos q] at h
    exact T49_put (by omega) ⟨by omega, fun k2 e => by subst e; exact h⟩
  · rw [if_neg q] at h
    exact T49_put (by omega) ⟨by omega, fun k2 e => by subst e; exact h⟩
theorem T49_pb83 {K2 : Int → (Int → Int) → Int → Prop} {k : Int} (hk : 0 ≤ k ∧ k ≤ 100) (ha : 0 ≤ a ∧ a < 256) (hb : 0 ≤ b ∧ b < 256) (hc : 0 ≤ c ∧ c < 256) (hl : (L.length : Int) + 4 ≤ 90) (h : K2 (k + 3) (dvPo o (dvBg a b c lf L)) ((dvBg a b c lf L).length : Nat)) : wX49_putBase_83 K2 k lf a b c (dvPo o L) (L.length : Nat) := by
  unfold wX49_putBase_83
  unfold dvBg at h
  have l1 := dvL1 (L := L) (b := dvLe (a / 4))
  have l2 := dvL1 (L := L ++ [dvLe (a / 4)]) (b := dvLe (a % 4 * 16 + b / 16))
  refine ⟨ha.1, T49_letter (by omega) (T49_put (by omega) ⟨hb.1, by omega, T49_letter (by omega) (T49_put (by omega) ⟨fun q => ?_, fun q => ⟨hc.1, by omega, T49_letter (by omega) ?_⟩⟩)⟩)⟩
  · rw [if_pos q] at h
    exact T49_pb143 hk hc (by omega) h
  · rw [if_neg q] at h
    exact T49_pb143 hk hc (by omega) h
theorem T49_pb2 {K : (Int → Int) → Int → Prop} (hv : 0 ≤ v ∧ v < 200) (ho : on v ≤ 20) (hb : ∀ k, 0 ≤ k → k < on v → 0 ≤ bt (20 * v + k) ∧ bt (20 * v + k) < 256) : ∀ (j : Nat) (k : Int) (L : List Int), 0 ≤ k → on v ≤ k + 3 * j → 0 < j → (L.length : Int) + 4 * j ≤ 90 → K (dvPo o (dvBr bt v (on v) j k L)) ((dvBr bt v (on v) j k L).length : Nat) → wX49_putBase_2 K v on bt (j + 1) k (dvPo o L) (L.length : Nat)
  | 0, k, L, hk, ek, h0, hl, h => absurd h0 (by decide)
  | j + 1, k, L, hk, ek, h0, hl, h => by
    rw [wX49_putBase_2]
    rw [dvBr] at h
    refine ⟨hv, fun q => ?_, fun q => ⟨by omega, fun lf el => ⟨by omega, fun w ew => ?_⟩⟩⟩
    · rw [if_pos q] at h; exact h
    · rw [if_neg q, ← el, ← ew] at h
      have B0 := hb k hk (by omega)
      have B1 : ¬ lf ≤ 1 → _ := fun q => hb (k + 1) (by omega) (by omega)
      have B2 : ¬ lf ≤ 2 → _ := fun q => hb (k + 2) (by omega) (by omega)
      rw [← ew] at B0
      have l4 : ∀ a b c lf : Int, ((dvBg a b c lf L).length : Int) = L.length + 4 := fun a b c lf => by unfold dvBg; rw [dvL1, dvL1, dvL1, dvL1]; omega
      have go : ∀ b c : Int, b = (if lf ≤ 1 then 0 else bt (20 * v + k + 1)) → c = (if lf ≤ 2 then 0 else bt (20 * v + k + 2)) → wX49_putBase_83 (wX49_putBase_2 K v on bt (j + 1)) k lf w b c (dvPo o L) (L.length : Nat) := fun b c eb ec => by
        rw [← eb, ← ec] at h
        have bb : 0 ≤ b ∧ b < 256 := by
          rw [eb]
          by_cases q : lf ≤ 1
          · rw [if_pos q]; decide
          · rw [if_neg q]; have := B1 q; rw [← Int.add_assoc] at this; exact this
        have cc : 0 ≤ c ∧ c < 256 := by
          rw [ec]
          by_cases q : lf ≤ 2
          · rw [if_pos q]; decide
          · rw [if_neg q]; have := B2 q; rw [← Int.add_assoc] at this; exact this
        refine T49_pb83 (by omega) B0 bb cc (by omega) ?_
        cases j with
        | zero =>
          rw [wX49_putBase_2]
          rw [dvBr] at h
          exact ⟨hv, fun _ => h, fun q => absurd (by omega) q⟩
        | succ i => exact T49_pb2 hv ho hb (i + 1) (k + 3) _ (by omega) (by omega) (by omega) (by rw [l4]; omega) h
      have go2 : ∀ b : Int, b = (if lf ≤ 1 then 0 else bt (20 * v + k + 1)) → wX49_putBase_59 (wX49_putBase_2 K v on bt (j + 1)) v k lf w b bt (dvPo o L) (L.length : Nat) := fun b eb => by
        unfold wX49_putBase_59
        exact ⟨fun q => go b 0 eb (by rw [if_pos q]), fun q => ⟨by omega, go b _ eb (by rw [if_neg q])⟩⟩
      exact ⟨fun q => go2 0 (by rw [if_pos q]), fun q => ⟨by omega, go2 _ (by rw [if_neg q])⟩⟩
theorem T49_putBase (hv : 0 ≤ v ∧ v < 200) (ho : on v ≤ 20) (hb : ∀ k, 0 ≤ k → k < on v → 0 ≤ bt (20 * v + k) ∧ bt (20 * v + k) < 256) (hs : L.length = 0) (hp : post (dvPo o (dvBr bt v (on v) 8 0 L)) ((dvBr bt v (on v) 8 0 L).length : Nat)) : wpX49_putBase post on bt (dvPo o L) (L.length : Nat) v := by
  unfold wpX49_putBase
  exact ⟨9, T49_pb2 hv ho hb 8 0 L (by decide) (by omega) (by decide) (by omega) hp⟩
end

/-! DatatypeValues, the reference (X49): spans told; all that is told -/
section
variable {o on tw bt kd : Int → Int} {L : List Int} {b v x y c n m i r x12 : Int} {post : (Int → Int) → Int → Prop}
theorem T49_ps72 (h0 : 0 ≤ y ∧ y < 1000000000000000) (hl : (L.length : Int) ≤ 40) (hp : post (dvPo o (dvNm (dvNm L (y / 1000) 1 ++ [46]) (y % 1000) 3 ++ [83])) ((dvNm (dvNm L (y / 1000) 1 ++ [46]) (y % 1000) 3 ++ [83]).length : Nat)) : wX49_putSpan_72 post y (dvPo o L) (L.length : Nat) := by
  unfold wX49_putSpan_72
  have a1 := dvNm_l (L := L) (v := y / 1000) (least := 1) 13 (by omega) (by decide) (by decide)
  have a2 := dvL1 (L := dvNm L (y / 1000) 1) (b := 46)
  have a3 := dvNm_l (L := dvNm L (y / 1000) 1 ++ [46]) (v := y % 1000) (least := 3) 3 (by omega) (by decide) (by decide)
  exact ⟨h0.1, T49_putNumber 13 (by omega) (by decide) (by decide) (by omega) (T49_put (by omega) (T49_putNumber 3 (by omega) (by decide) (by decide) (by omega) (T49_put (by omega) hp)))⟩
theorem T49_ps24 (hm : -1000000000 < m ∧ m < 1000000000) (hi : -1000000000000000 < i ∧ i < 1000000000000000) (hs : L.length = 0) (hp : post (dvPo o (dvTx L m i)) ((dvTx L m i).length : Nat)) : wX49_putSpan_24 post m i (dvPo o L) (L.length : Nat) := by
  unfold dvTx at hp
  unfold wX49_putSpan_24
  have a1 := dvL1 (L := L) (b := 80)
  have a2 := dvNm_l (L := L ++ [80]) (v := m) (least := 1) 9 (by omega) (by decide) (by decide)
  have a3 := dvL1 (L := dvNm (L ++ [80]) m 1) (b := 77)
  have a4 := dvL1 (L := dvNm (L ++ [80]) m 1 ++ [77]) (b := 84)
  have a5 := dvL1 (L := dvNm (L ++ [80]) m 1 ++ [77] ++ [84]) (b := 45)
  refine T49_put (by omega) (T49_putNumber 9 (by omega) (by decide) (by decide) (by omega) (T49_put (by omega) (T49_put (by omega) ⟨fun q => ⟨fun _ => ?_, fun w => absurd q w⟩, fun q => T49_put (by omega) ⟨fun w => absurd w q, fun _ => ⟨by omega, ?_⟩⟩⟩)))
  · rw [if_pos q, show dvAb i = i by unfold dvAb; rw [if_pos q]] at hp
    exact T49_ps72 ⟨q, by omega⟩ (by omega) hp
  · rw [if_neg q, show dvAb i = -i by unfold dvAb; rw [if_neg q]] at hp
    exact T49_ps72 (by omega) (by omega) hp
theorem T49_ps300 (h0 : 0 ≤ r ∧ r < 86400000) (hl : (L.length : Int) ≤ 60) (hp : post (dvPo o (dvMs (dvNm L (r / 1000 % 60) 1) (r % 1000) ++ [83])) ((dvMs (dvNm L (r / 1000 % 60) 1) (r % 1000) ++ [83]).length : Nat)) : wX49_putSpan_300 post r (dvPo o L) (L.length : Nat) := by
  unfold wX49_putSpan_300
  have a1 := dvNm_l (L := L) (v := r / 1000 % 60) (least := 1) 2 (by omega) (by decide) (by decide)
  have a2 := dvMs_l (L := dvNm L (r / 1000 % 60) 1) (v := r % 1000) (by omega)
  exact ⟨h0.1, by omega, T49_putNumber 2 (by omega) (by decide) (by decide) (by omega) (T49_putMillis (by omega) (by omega) (T49_put (by omega) hp))⟩
theorem T49_ps249 {N : Prop} (h12 : x12 = 0 ↔ ¬ N) (h0 : 0 ≤ r ∧ r < 86400000) (hl : (L.length : Int) ≤ 40)
    (h1 : r % 60000 = 0 ∧ ¬ N → post (dvPo o (dvSo (dvSo (L ++ [84]) (r / 3600000) 72) (r / 60000 % 60) 77)) ((dvSo (dvSo (L ++ [84]) (r / 3600000) 72) (r / 60000 % 60) 77).length : Nat))
    (h2 : ¬ (r % 60000 = 0 ∧ ¬ N) → post (dvPo o (dvMs (dvNm (dvSo (dvSo (L ++ [84]) (r / 3600000) 72) (r / 60000 % 60) 77) (r / 1000 % 60) 1) (r % 1000) ++ [83])) ((dvMs (dvNm (dvSo (dvSo (L ++ [84]) (r / 3600000) 72) (r / 60000 % 60) 77) (r / 1000 % 60) 1) (r % 1000) ++ [83]).length : Nat)) : wX49_putSpan_249 post r x12 (dvPo o L) (L.length : Nat) := by
  unfold wX49_putSpan_249
  have a1 := dvL1 (L := L) (b := 84)
  have a2 := dvSo_l (L := L ++ [84]) (v := r / 3600000) (b := 72) 2 (by omega) (by decide)
  have a3 := dvSo_l (L := dvSo (L ++ [84]) (r / 3600000) 72) (v := r / 60000 % 60) (b := 77) 2 (by omega) (by decide)
  refine T49_put (by omega) ⟨h0.1, T49_putSome 2 (by omega) (by decide) (by omega) ⟨by omega, T49_putSome 2 (by omega) (by decide) (by omega) ⟨fun q => ⟨fun w => h1 ⟨q, h12.1 w⟩, fun w => T49_ps300 h0 (by omega) (h2 (fun z => w (h12.2 z.2)))⟩, fun q => T49_ps300 h0 (by omega) (h2 (fun z => q z.1))⟩⟩⟩
theorem T49_ps169 (hm : 0 ≤ m ∧ m < 1000000000) (hi : 0 ≤ i ∧ i < 1000000000000000) (hs : (L.length : Int) ≤ 2) (hp : post (dvPo o (dvTs L m i)) ((dvTs L m i).length : Nat)) : wX49_putSpan_169 post m i (dvPo o L) (L.length : Nat) := by
  unfold dvTs at hp
  unfold wX49_putSpan_169
  have a1 := dvSo_l (L := L) (v := m / 12) (b := 89) 8 (by omega) (by decide)
  have a2 := dvSo_l (L := dvSo L (m / 12) 89) (v := m % 12) (b := 77) 2 (by omega) (by decide)
  have a3 := dvSo_l (L := dvSo (dvSo L (m / 12) 89) (m % 12) 77) (v := i / 86400000) (b := 68) 8 (by omega) (by decide)
  refine ⟨hm.1, T49_putSome 8 (by omega) (by decide) (by omega) (T49_putSome 2 (by omega) (by decide) (by omega) ⟨hi.1, T49_putSome 8 (by omega) (by decide) (by omega) fun r er => ?_⟩)⟩
  rw [← er] at hp
  have rb : 0 ≤ r ∧ r < 86400000 := by omega
  have goes : ∀ x12 : Int, (x12 = 0 ↔ ¬ (m = 0 ∧ i = 0)) → ¬ (r = 0 ∧ ¬ (m = 0 ∧ i = 0)) → wX49_putSpan_249 post r x12 (dvPo o (dvSo (dvSo (dvSo L (m / 12) 89) (m % 12) 77) (i / 86400000) 68)) ((dvSo (dvSo (dvSo L (m / 12) 89) (m % 12) 77) (i / 86400000) 68).length : Nat) := fun x12 e12 nz => by
    rw [if_neg nz] at hp
    refine T49_ps249 e12 rb (by omega) (fun q => ?_) (fun q => ?_)
    · rw [if_pos q] at hp; exact hp
    · rw [if_neg q] at hp; exact hp
  have ends : r = 0 ∧ ¬ (m = 0 ∧ i = 0) → post (dvPo o (dvSo (dvSo (dvSo L (m / 12) 89) (m % 12) 77) (i / 86400000) 68)) ((dvSo (dvSo (dvSo L (m / 12) 89) (m % 12) 77) (i / 86400000) 68).length : Nat) := fun z => by
    rw [if_pos z] at hp; exact hp
  refine ⟨fun m0 => ⟨fun i0 => ?_, fun i0 => ?_⟩, fun m0 => ?_⟩
  · have e1 : ((1 : Int) = 0 ↔ ¬ (m = 0 ∧ i = 0)) := by omega
    exact ⟨fun _ => ⟨fun q => absurd q (by decide), fun _ => goes 1 e1 (by omega)⟩, fun _ => goes 1 e1 (by omega)⟩
  · have e1 : ((0 : Int) = 0 ↔ ¬ (m = 0 ∧ i = 0)) := by omega
    exact ⟨fun z => ⟨fun _ => ends (by omega), fun q => absurd rfl q⟩, fun z => goes 0 e1 (by omega)⟩
  · have e1 : ((0 : Int) = 0 ↔ ¬ (m = 0 ∧ i = 0)) := by omega
    exact ⟨fun z => ⟨fun _ => ends (by omega), fun q => absurd rfl q⟩, fun z => goes 0 e1 (by omega)⟩
theorem T49_putSpan (hm : -1000000000 < m ∧ m < 1000000000) (hi : -1000000000000000 < i ∧ i < 1000000000000000) (hs : L.length = 0) (hp : post (dvPo o (dvTp L m i)) ((dvTp L m i).length : Nat)) : wpX49_putSpan post (dvPo o L) (L.length : Nat) m i := by
  unfold dvTp at hp
  have a1 := dvL1 (L := L) (b := 80)
  have a2 := dvL1 (L := L) (b := 45)
  have a3 := dvL1 (L := L ++ [45]) (b := 80)
  have two : m < 0 ∧ 0 < i ∨ 0 < m ∧ i < 0 → wX49_putSpan_24 post m i (dvPo o L) (L.length : Nat) := fun q => by
    rw [if_pos q] at hp
    exact T49_ps24 hm hi hs hp
  have one : ¬ (m < 0 ∧ 0 < i ∨ 0 < m ∧ i < 0) → wX49_putSpan_109 post m i (dvPo o L) (L.length : Nat) := fun q => by
    rw [if_neg q] at hp
    have below : m < 0 ∨ i < 0 → wX49_putSpan_139 post m i 1 (dvPo o (L ++ [45])) ((L ++ [45]).length : Nat) := fun w => by
      rw [if_pos w] at hp
      unfold wX49_putSpan_139
      exact T49_put (by omega) ⟨fun z => absurd z (by decide), fun _ => ⟨by omega, fun m2 e2 => ⟨fun z => absurd z (by decide), fun _ => ⟨by omega, by rw [e2]; exact T49_ps169 (by omega) (by omega) (by omega) hp⟩⟩⟩⟩
    unfold wX49_putSpan_109
    refine ⟨fun z => ⟨fun w => absurd w (by decide), fun _ => T49_put (by omega) (below (Or.inl z))⟩, fun z => ⟨fun z2 => ⟨fun _ => ?_, fun w => absurd rfl w⟩, fun z2 => ⟨fun w => absurd w (by decide), fun _ => T49_put (by omega) (below (Or.inr (by omega)))⟩⟩⟩
    rw [if_neg (by omega)] at hp
    unfold wX49_putSpan_139
    exact T49_put (by omega) ⟨fun _ => ⟨fun _ => T49_ps169 (by omega) (by omega) (by omega) hp, fun w => absurd rfl w⟩, fun w => absurd rfl w⟩
  unfold wpX49_putSpan
  exact ⟨fun q => ⟨fun q2 => one (by omega), fun q2 => ⟨fun q3 => one (by omega), fun q3 => two (by omega)⟩⟩, fun q => ⟨fun q2 => two (by omega), fun q2 => ⟨fun q3 => one (by omega), fun q3 => ⟨fun q4 => one (by omega), fun q4 => two (by omega)⟩⟩⟩⟩
theorem T49_tell {post : Int → (Int → Int) → Int → Int → Int → Int → Int → Prop} {oz Y M D : Int} (V : dvVs c kd on tw bt) (h0 : ¬ (0 ≤ v ∧ v < c) → post (-1) o oz 0 Y M D) (h1 : 0 ≤ v ∧ v < c → ∀ Y M D, post ((dvTl kd on tw bt v).length : Nat) (dvPo o (dvTl kd on tw bt v)) ((dvTl kd on tw bt v).length : Nat) 0 Y M D) : wpX49_tell post kd on tw bt c o oz Y M D v := by
  have hc := V.1
  have n1 : dvOf 1 1 1 = -719162 := by decide
  have n2 : dvOf 10000 1 1 = 2932897 := by decide
  unfold wpX49_tell
  refine T49_isV (fun v0 v1 => ⟨by omega, fun kz ez => ?_⟩) h0
  have H := h1 ⟨v0, v1⟩
  have Vv := V.2 v v0 v1
  have V1 := Vv.1
  unfold dvOv at V1
  have V2 := Vv.2
  unfold dvTl at H
  rw [← ez] at H V1 V2
  have z0 : ((([] : List Int).length : Nat) : Int) = 0 := rfl
  rw [dvPo_n (o := o)]
  refine ⟨fun k3 => ?_, fun k3 => ⟨fun k4 => ?_, fun k4 => ⟨fun k5 => ?_, fun k5 => ⟨fun k6 => ?_, fun k6 => ⟨fun k7 => ?_, fun k7 => ⟨fun k8 => ?_, fun k8 => ?_⟩⟩⟩⟩⟩⟩
  · rw [if_pos k3] at H
    refine ⟨fun q => T49_putTruth (L := []) (by decide) ?_, fun q => T49_putTruth (L := []) (by decide) ?_⟩
    · rw [if_pos q] at H; exact H _ _ _
    · rw [if_neg q] at H; exact H _ _ _
  · rw [if_neg k3, if_pos (Or.inl k4)] at H
    have T := (V1.2.2.2.1 (Or.inl k4))
    refine T49_putTime (L := []) (by omega) rfl T.1 T.2 (fun Y M D => ?_)
    rw [← ez]; exact H _ _ _
  · rw [if_neg k3, if_pos (Or.inr k5)] at H
    have T := (V1.2.2.2.1 (Or.inr k5))
    refine T49_putTime (L := []) (by omega) rfl T.1 T.2 (fun Y M D => ?_)
    rw [← ez]; exact H _ _ _
  · rw [if_neg k3, if_neg (by omega), if_pos k6] at H
    have T := (V1.2.2.2.2.1 k6)
    exact T49_putSpan (L := []) T.1 T.2 rfl (H _ _ _)
  · rw [if_neg k3, if_neg (by omega), if_neg k6, if_pos k7] at H
    exact T49_putHex (L := []) (by omega) (V1.2.2.2.2.2 (by omega)).1 (V2 (by omega)) rfl (H _ _ _)
  · rw [if_neg k3, if_neg (by omega), if_neg k6, if_neg k7, if_pos k8] at H
    exact T49_putBase (L := []) (by omega) (V1.2.2.2.2.2 (by omega)).1.2 (V2 (by omega)) rfl (H _ _ _)
  · rw [if_neg k3, if_neg (by omega), if_neg k6, if_neg k7, if_neg k8] at H
    have T := V1.2.1 (by omega)
    have a1 := dvNm_l (L := []) (v := on v) (least := 1) 9 (by omega) (by decide) (by decide)
    have a2 := dvL1 (L := dvNm [] (on v) 1) (b := 47)
    refine T49_putNumber (L := []) 9 (by omega) (by decide) (by decide) (by decide) ⟨fun q => ?_, fun q => T49_put (by omega) (T49_putNumber 9 (by omega) (by decide) (by decide) (by omega) ?_)⟩
    · rw [if_pos q] at H; exact H _ _ _
    · rw [if_neg q] at H; exact H _ _ _
theorem T49_told {post : Int → Int → Prop} {sz : Int} (hs : sz ≤ 90) (hp : post (if 0 ≤ i ∧ i < sz then o i else -1) 0) : wpX49_told post o sz i := by
  unfold wpX49_told
  refine ⟨fun q => ?_, fun q => ⟨fun w => ?_, fun w => ⟨by omega, ?_⟩⟩⟩
  · rw [if_neg (by omega)] at hp; exact hp
  · rw [if_neg (by omega)] at hp; exact hp
  · rw [if_pos (by omega)] at hp; exact hp
end
