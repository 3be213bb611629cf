/-! RightDeskModel (X51): all that is told -/
/-- the whole state: groups; conditions; rules -/
def rdI (kk a b c : Int → Int) (nc : Int) (rk dn wn : Int → Int) (nr : Int) : Prop := rdC kk a b c nc ∧ rdR rk dn wn nr nc
section
variable {g kk a b c rk dn wn : Int → Int} {nc nr : Int}
noncomputable def rdDec (g kk a b c rk dn wn : Int → Int) (nr q w : Int) : Int := rdB rk dn wn (rdH g kk a b c q) w nr.toNat
def rdAl (g kk a b c rk dn wn : Int → Int) (nr q w : Int) : Prop := 0 ≤ rdDec g kk a b c rk dn wn nr q w ∧ dn (rdDec g kk a b c rk dn wn nr q w) = 0
theorem rdDec_b (hI : rdI kk a b c nc rk dn wn nr) (q w : Int) : -1 ≤ rdDec g kk a b c rk dn wn nr q w ∧ rdDec g kk a b c rk dn wn nr q w < nr := by
  have := rdB_b rk dn wn (rdH g kk a b c q) w nr.toNat
  have h := hI.2.1
  unfold rdDec
  omega
theorem T51_decider {post : Int → (Int → Int) → Prop} {h : Int → Int} {q w : Int} (hI : rdI kk a b c nc rk dn wn nr) (hq : 0 ≤ q ∧ q < 6144) (hp : ∀ h', (∀ k, 0 ≤ k → k < nc → h' k = rdH g kk a b c q k) → post (rdDec g kk a b c rk dn wn nr q w) h') : wpX51_decider post g kk a b c nc rk dn wn nr h q w := by
  obtain ⟨hC, hR⟩ := hI
  unfold wpX51_decider
  refine T51_look hC hq ⟨hC.1.1, Int.le_refl _⟩ (fun h' hh => T51_decide hR hC.1.2 ?_)
  have : rdB rk dn wn h' w nr.toNat = rdDec g kk a b c rk dn wn nr q w := rdB_c (fun j x y => by
    have := hR.1
    exact hh _ (hR.2 j x (by omega)).2.2.1 (hR.2 j x (by omega)).2.2.2)
  rw [this]
  exact hp h' hh
theorem T51_isAllowed {post : Int → (Int → Int) → Prop} {h : Int → Int} {q w : Int} (hI : rdI kk a b c nc rk dn wn nr) (hq : 0 ≤ q ∧ q < 6144) (h1 : rdAl g kk a b c rk dn wn nr q w → ∀ h', post 1 h') (h0 : ¬ rdAl g kk a b c rk dn wn nr q w → ∀ h', post 0 h') : wpX51_isAllowed post g kk a b c nc rk dn wn nr h q w := by
  have hb := rdDec_b (g := g) hI q w
  have hr := hI.2.1
  unfold wpX51_isAllowed
  refine T51_decider hI hq (fun h' _ => ⟨fun z => h0 (fun y => by have := y.1; omega) h', fun z => ⟨by omega, fun e => h1 ⟨by omega, e⟩ h', fun e => h0 (fun y => e y.2) h'⟩⟩)
noncomputable def rdMay (g kk a b c rk dn wn : Int → Int) (nr p gr pr cl ve w : Int) : Int :=
  pif ((0 ≤ p ∧ p < 8) ∧ (0 ≤ gr ∧ gr < 4) ∧ (0 ≤ pr ∧ pr < 6) ∧ (0 ≤ cl ∧ cl < 4) ∧ (0 ≤ ve ∧ ve < 8) ∧ (0 ≤ w ∧ w < 2))
    (if w = 1 then (if 0 ≤ rdDec g kk a b c rk dn wn nr ((((p * 4 + gr) * 6 + pr) * 4 + cl) * 8 + ve) (-1) then rdDec g kk a b c rk dn wn nr ((((p * 4 + gr) * 6 + pr) * 4 + cl) * 8 + ve) (-1) else -2) else pif (rdAl g kk a b c rk dn wn nr ((((p * 4 + gr) * 6 + pr) * 4 + cl) * 8 + ve) (-1)) 1 0) (-1)
theorem T51_may {post : Int → (Int → Int) → Prop} {h : Int → Int} {p gr pr cl ve w : Int} (hI : rdI kk a b c nc rk dn wn nr) (hp : ∀ h', post (rdMay g kk a b c rk dn wn nr p gr pr cl ve w) h') : wpX51_may post g kk a b c nc rk dn wn nr h p gr pr cl ve w := by
  have hr := hI.2.1
  unfold wpX51_may
  unfold rdMay at hp
  refine T51_inB (fun a1 a2 => T51_inB (fun b1 b2 => T51_inB (fun c1 c2 => T51_inB (fun d1 d2 => T51_inB (fun e1 e2 => T51_inB (fun f1 f2 => ⟨by omega, T51_decider hI (by omega) (fun h' _ => ?_)⟩) (fun z => ?_)) (fun z => ?_)) (fun z => ?_)) (fun z => ?_)) (fun z => ?_)) (fun z => ?_)
  · rw [pif_t ⟨⟨a1, a2⟩, ⟨b1, b2⟩, ⟨c1, c2⟩, ⟨d1, d2⟩, ⟨e1, e2⟩, f1, f2⟩] at hp
    have hb := rdDec_b (g := g) hI ((((p * 4 + gr) * 6 + pr) * 4 + cl) * 8 + ve) (-1)
    unfold rdAl at hp
    generalize rdDec g kk a b c rk dn wn nr ((((p * 4 + gr) * 6 + pr) * 4 + cl) * 8 + ve) (-1) = D at *
    refine ⟨fun z => ?_, fun z => ?_⟩
    · rw [if_pos z] at hp
      exact ⟨fun y => by rw [if_pos y] at hp; exact hp h', fun y => by rw [if_neg y] at hp; exact hp h'⟩
    · rw [if_neg z] at hp
      exact ⟨fun y => by rw [pif_f (fun w => by have := w.1; omega)] at hp; exact hp h', fun y => ⟨by omega, fun e => by rw [pif_t ⟨by omega, e⟩] at hp; exact hp h', fun e => by rw [pif_f (fun w => e w.2)] at hp; exact hp h'⟩⟩
  all_goals
    rw [pif_f (fun y => by omega)] at hp
    exact hp h
def rdMem (g : Int → Int) (p r b : Int) : Int := if (0 ≤ p ∧ p < 8) ∧ (0 ≤ r ∧ r < 8) then (if (if g p / 2 ^ r.toNat % 2 = 1 then (1 : Int) else 0) = b then 0 else 1) else -1
def rdMemG (g : Int → Int) (p r b : Int) : Int → Int := if rdMem g p r b = 1 then updI g p (zxor (g p) (2 ^ r.toNat)) else g
theorem T51_member {post : Int → (Int → Int) → Prop} {p r y : Int} (hp : post (rdMem g p r y) (rdMemG g p r y)) : wpX51_member post g p r y := by
  unfold wpX51_member
  unfold rdMemG rdMem at hp
  refine T51_inB (fun a1 a2 => T51_inB (fun b1 b2 => ⟨⟨a1, a2⟩, by omega, fun e => ?_, fun e => ?_⟩) (fun z => ?_)) (fun z => ?_)
  · rw [if_pos ⟨⟨a1, a2⟩, b1, b2⟩, if_pos e] at hp
    unfold wX51_member_39
    refine ⟨fun z => ?_, fun z => ⟨⟨a1, a2⟩, by omega, fun _ e1 _ e2 => ?_⟩⟩
    · rw [if_pos z] at hp; simpa using hp
    · subst e1 e2; rw [if_neg z] at hp; simpa using hp
  · rw [if_pos ⟨⟨a1, a2⟩, b1, b2⟩, if_neg e] at hp
    unfold wX51_member_39
    refine ⟨fun z => ?_, fun z => ⟨⟨a1, a2⟩, by omega, fun _ e1 _ e2 => ?_⟩⟩
    · rw [if_pos z] at hp; simpa using hp
    · subst e1 e2; rw [if_neg z] at hp; simpa using hp
  · rw [if_neg (fun y => z y.2)] at hp; simpa using hp
  · rw [if_neg (fun y => z y.1)] at hp; simpa using hp
/-- whether a condition may be made -/
def rdFit (nc t x y z : Int) : Prop :=
  if t = 0 ∨ t = 1 then 0 ≤ x ∧ x < 8 else if t = 2 ∨ t = 4 then 0 ≤ x ∧ x < 4 else if t = 3 then 0 ≤ x ∧ x < 6 else if t = 5 then (0 ≤ x ∧ x < 8) ∧ (0 ≤ y ∧ y < 8) ∧ x ≤ y else if t = 6 then 0 ≤ x ∧ x < nc else
  if t = 7 ∨ t = 8 then (0 ≤ x ∧ x < nc) ∧ (0 ≤ y ∧ y < nc) else if t = 9 then True else if t = 10 then (0 ≤ x ∧ x < nc) ∧ (0 ≤ y ∧ y < nc) ∧ (0 ≤ z ∧ z < nc) else False
theorem T51_in1 {A B : Prop} {v n : Int} (h1 : 0 ≤ v → v < n → B) (h0 : ¬ (0 ≤ v ∧ v < n) → A) : wpX51_in (fun r => (r = 0 ∨ r = 1) ∧ ((r = 0 → A) ∧ (¬ r = 0 → B))) v n := by
  unfold wpX51_in
  refine ⟨fun a => ⟨by simp, fun _ => h0 (by omega), fun q => absurd rfl q⟩, fun a => ⟨fun b => ⟨by simp, fun _ => h0 (by omega), fun q => absurd rfl q⟩, fun b => ⟨by simp, fun q => absurd q (by decide), fun _ => h1 (by omega) (by omega)⟩⟩⟩
theorem T51_fitsB {A B : Prop} {t x y z : Int} (h1 : rdFit nc t x y z → B) (h0 : ¬ rdFit nc t x y z → A) : wpX51_fits (fun r => (r = 0 → A) ∧ (¬ r = 0 → B)) nc t x y z := by
  have no : ¬ rdFit nc t x y z → (((0 : Int) = 0 → A) ∧ (¬ (0 : Int) = 0 → B)) := fun h => ⟨fun _ => h0 h, fun q => absurd rfl q⟩
  have yes : rdFit nc t x y z → (((1 : Int) = 0 → A) ∧ (¬ (1 : Int) = 0 → B)) := fun h => ⟨fun q => absurd q (by decide), fun _ => h1 h⟩
  unfold wpX51_fits wX51_fits_118
  refine ⟨fun e => ?_, fun e0 => ⟨fun e => ?_, fun e1 => ⟨fun e => ?_, fun e2 => ⟨fun e => ?_, fun e3 => ⟨fun e => ?_, fun e4 => ⟨fun e => ?_, fun e5 => ⟨fun e => ?_, fun e6 => ⟨fun e => ?_, fun e7 => ⟨fun e => ?_, fun e8 => ⟨fun e => ?_, fun e9 => ⟨fun e => ?_, fun e10 => ?_⟩⟩⟩⟩⟩⟩⟩⟩⟩⟩⟩
  · subst e; exact T51_in1 (fun p q => h1 (by simp [rdFit]; omega)) (fun p => h0 (by simp [rdFit]; omega))
  · subst e; exact T51_in1 (fun p q => h1 (by simp [rdFit]; omega)) (fun p => h0 (by simp [rdFit]; omega))
  · subst e; exact T51_in1 (fun p q => h1 (by simp [rdFit]; omega)) (fun p => h0 (by simp [rdFit]; omega))
  · subst e; exact T51_in1 (fun p q => h1 (by simp [rdFit]; omega)) (fun p => h0 (by simp [rdFit]; omega))
  · subst e; exact T51_in1 (fun p q => h1 (by simp [rdFit]; omega)) (fun p => h0 (by simp [rdFit]; omega))
  · subst e; exact T51_inB (fun p q => T51_inB (fun p' q' => ⟨fun w => no (by simp [rdFit]; omega), fun w => yes (by simp [rdFit]; omega)⟩) (fun p' => no (by simp [rdFit]; omega))) (fun p => no (by simp [rdFit]; omega))
  · subst e; exact T51_in1 (fun p q => h1 (by simp [rdFit]; omega)) (fun p => h0 (by simp [rdFit]; omega))
  · subst e; exact T51_inB (fun p q => T51_inB (fun p' q' => yes (by simp [rdFit]; omega)) (fun p' => no (by simp [rdFit]; omega))) (fun p => no (by simp [rdFit]; omega))
  · subst e; exact T51_inB (fun p q => T51_inB (fun p' q' => yes (by simp [rdFit]; omega)) (fun p' => no (by simp [rdFit]; omega))) (fun p => no (by simp [rdFit]; omega))
  · subst e; exact yes (by simp [rdFit])
  · subst e; exact T51_inB (fun p q => T51_inB (fun p' q' => T51_inB (fun p2 q2 => yes (by simp [rdFit]; omega)) (fun p' => no (by simp [rdFit]; omega))) (fun p' => no (by simp [rdFit]; omega))) (fun p => no (by simp [rdFit]; omega))
  · exact no (by simp [rdFit, e0, e1, e2, e3, e4, e5, e6, e7, e8, e9, e10])
noncomputable def rdCon (nc t x y z : Int) : Int := pif (rdFit nc t x y z) (if nc = 60 then -3 else nc) (-1)
def rdCok (nc t x y z : Int) : Prop := rdFit nc t x y z ∧ nc ≠ 60
theorem T51_condition {post : Int → (Int → Int) → (Int → Int) → (Int → Int) → (Int → Int) → Int → Prop} {t x y z : Int} (hn : 0 ≤ nc ∧ nc ≤ 60) (h1 : rdCok nc t x y z → post nc (updI kk nc t) (updI a nc x) (updI b nc y) (updI c nc z) (nc + 1)) (h0 : ¬ rdCok nc t x y z → post (rdCon nc t x y z) kk a b c nc) : wpX51_condition post kk a b c nc t x y z := by
  unfold wpX51_condition
  refine T51_fitsB (fun hf => ⟨fun e => ?_, fun e => ⟨by omega, fun _ e1 _ e2 _ e3 _ e4 => ⟨by omega, fun _ e5 => ⟨by omega, ?_⟩⟩⟩⟩) (fun hf => ?_)
  · have := h0 (fun w => w.2 e)
    unfold rdCon at this
    rw [pif_t hf, if_pos e] at this
    exact this
  · subst e1 e2 e3 e4 e5
    rw [Int.add_sub_cancel]
    exact h1 ⟨hf, e⟩
  · have := h0 (fun w => hf w.1)
    unfold rdCon at this
    rw [pif_f hf] at this
    exact this
def rdRok (nc nr r x : Int) : Prop := ((0 ≤ r ∧ r < 10) ∧ (0 ≤ x ∧ x < nc)) ∧ nr ≠ 20
def rdRul (nc nr r x : Int) : Int := if (0 ≤ r ∧ r < 10) ∧ (0 ≤ x ∧ x < nc) then -3 else -1
theorem T51_rule {post : Int → (Int → Int) → (Int → Int) → (Int → Int) → Int → Prop} {r y x : Int} (hn : 0 ≤ nr ∧ nr ≤ 20) (hy : y = 0 ∨ y = 1) (h1 : rdRok nc nr r x → post nr (updI rk nr r) (updI dn nr y) (updI wn nr x) (nr + 1)) (h0 : ¬ rdRok nc nr r x → post (rdRul nc nr r x) rk dn wn nr) : wpX51_rule post nc rk dn wn nr r y x := by
  unfold wpX51_rule
  unfold rdRul at h0
  refine T51_inB (fun a1 a2 => T51_inB (fun b1 b2 => ⟨fun e => ?_, fun e => ⟨by omega, fun _ e1 => ⟨hy, fun _ e2 _ e3 => ⟨by omega, fun _ e5 => ⟨by omega, ?_⟩⟩⟩⟩⟩) (fun z => ?_)) (fun z => ?_)
  · have := h0 (fun w => w.2 e)
    rw [if_pos ⟨⟨a1, a2⟩, b1, b2⟩] at this; exact this
  · subst e1 e2 e3 e5
    rw [Int.add_sub_cancel]
    exact h1 ⟨⟨⟨a1, a2⟩, b1, b2⟩, e⟩
  · have := h0 (fun w => z w.1.2)
    rw [if_neg (fun w => z w.2)] at this; exact this
  · have := h0 (fun w => z w.1.1)
    rw [if_neg (fun w => z w.1)] at this; exact this
def rdSh (f : Int → Int) (i n : Int) : Int → Int := fun j => if i ≤ j ∧ j < n then f (j + 1) else f j
theorem T51_drop {post : Int → (Int → Int) → (Int → Int) → (Int → Int) → Int → Prop} {i : Int} (hR : rdR rk dn wn nr nc) (h1 : (0 ≤ i ∧ i < nr) → post (nr - 1) (rdSh rk i (nr - 1)) (rdSh dn i (nr - 1)) (rdSh wn i (nr - 1)) (nr - 1)) (h0 : ¬ (0 ≤ i ∧ i < nr) → post (-1) rk dn wn nr) : wpX51_drop post rk dn wn nr i := by
  obtain ⟨hn, hr⟩ := hR
  unfold wpX51_drop
  refine T51_inB (fun a1 a2 => ⟨by omega, fun _ e1 => ?_⟩) h0
  subst e1
  refine wl4 (fun n k f g h => wX51_drop_25 _ (nr - 1) n k f g h) (fun k f g h => (i ≤ k ∧ k ≤ nr - 1) ∧ f = rdSh rk i k ∧ g = rdSh dn i k ∧ h = rdSh wn i k) (fun k f g h => (nr - 1 - k).toNat) ?_ i rk dn wn ⟨by omega, by funext j; unfold rdSh; rw [if_neg (by omega)], by funext j; unfold rdSh; rw [if_neg (by omega)], by funext j; unfold rdSh; rw [if_neg (by omega)]⟩
  rintro k f g h ⟨hk, rfl, rfl, rfl⟩ n ih
  rw [wX51_drop_25]
  have sh : ∀ f : Int → Int, k < nr - 1 → updI (rdSh f i k) k (rdSh f i k (k + 1)) = rdSh f i (k + 1) := by
    intro f hlt
    funext j
    unfold rdSh updI
    dsimp only
    by_cases hj : j = k
    · rw [if_pos hj, if_neg (by omega), if_pos (by omega), hj]
    · rw [if_neg hj]
      by_cases hj2 : i ≤ j ∧ j < k
      · rw [if_pos hj2, if_pos (by omega)]
      · rw [if_neg hj2, if_neg (by omega)]
  refine ⟨fun z => ?_, fun z => ⟨by omega, fun _ e1 => ⟨by omega, fun _ e2 _ e3 => ⟨?_, fun _ e4 _ e5 _ e6 => ⟨by omega, fun _ e7 => ?_⟩⟩⟩⟩⟩
  · have : k = nr - 1 := by omega
    subst this
    exact h1 ⟨a1, a2⟩
  · rw [e3]; unfold rdSh; rw [if_neg (by omega)]; exact (hr (k + 1) (by omega) (by omega)).2.1
  · subst e1 e2 e3 e4 e5 e6 e7
    refine ih _ _ _ _ ⟨by omega, sh rk (by omega), sh dn (by omega), sh wn (by omega)⟩ (by omega)
end
