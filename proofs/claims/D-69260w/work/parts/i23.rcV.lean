/-! RuleEngine: what is worked out, as functions of what is said and the rules -/
noncomputable def rzCi (hd kd fo ln pt : Int → Int) (n : Int) : Int := reCi (reEd hd kd fo ln pt n 1) (reEd hd kd fo ln pt n 2)
def rzP (hd kd fo ln pt : Int → Int) (n : Int) (f : Int → Int) : Prop := (0 ≤ rzCi hd kd fo ln pt n → ∀ a, 0 ≤ a → a < 16 → f a = 0) ∧ (rzCi hd kd fo ln pt n = -1 → reLs (reEd hd kd fo ln pt n 1) (reEd hd kd fo ln pt n 2) f ∧ ∀ a, 0 ≤ a → a < 16 → f a ≤ 15)
noncomputable def rzSt (hd kd fo ln pt : Int → Int) (n : Int) : Int → Int := Classical.epsilon (rzP hd kd fo ln pt n)
noncomputable def rzAll (sd hd kd fo ln pt : Int → Int) (n : Int) : (Int → Int) × (Int → Int) × Int × Int := reRz sd hd kd fo ln pt (rzSt hd kd fo ln pt n) n (rzCi hd kd fo ln pt n) (fun _ => -1) (fun _ => 0)
noncomputable def rzSs (sd hd kd fo ln pt : Int → Int) (n : Int) : (Int → Int) × Int × Int × Int := reSs hd kd fo ln pt (rzSt hd kd fo ln pt n) n 16 0 (reZr sd (fun _ => -1) 16384) 0 0 0
def reS0 (sd : Int → Int) (c : Int) : Prop := (0 ≤ c ∧ c < 16384) ∧ ¬ sd c = 0
section
variable {sd hd kd fo ln pt st rn f : Int → Int} {n s c a w : Int}
theorem rzCi_b : 0 ≤ rzCi hd kd fo ln pt n ∨ rzCi hd kd fo ln pt n = -1 := by
  have fb := (fstI_s (reQ (reEd hd kd fo ln pt n 1) (reEd hd kd fo ln pt n 2)) 16).1.1
  unfold rzCi reCi
  split
  · exact Or.inl fb
  · exact Or.inr rfl
theorem rzP.u {g : Int → Int} (hf : rzP hd kd fo ln pt n f) (hg : rzP hd kd fo ln pt n g) (a0 : 0 ≤ a) (a1 : a < 16) : f a = g a := by
  rcases rzCi_b (hd := hd) (kd := kd) (fo := fo) (ln := ln) (pt := pt) (n := n) with h | h
  · rw [hf.1 h a a0 a1, hg.1 h a a0 a1]
  · exact reLs_u (hf.2 h).1 (hg.2 h).1 a0 a1
theorem rzSt_s (h : rzP hd kd fo ln pt n f) : rzP hd kd fo ln pt n (rzSt hd kd fo ln pt n) := Classical.epsilon_spec (p := rzP hd kd fo ln pt n) ⟨f, h⟩
theorem rz1 : reHo (reZr sd f 16384) = reS0 sd := funext fun c => propext (by
  unfold reHo reS0 reZr
  constructor
  · rintro ⟨h, z⟩
    refine ⟨h, fun y => ?_⟩
    rw [if_pos h, if_pos y] at z
    exact absurd z (by decide)
  · rintro ⟨h, z⟩
    refine ⟨h, ?_⟩
    rw [if_pos h, if_neg z]; exact Int.le_refl _)
theorem rz2 (c0 : 0 ≤ c) (c1 : c < 16384) : pif (reS0 sd c) 0 (-2) = if reZr sd f 16384 c < 0 then -2 else reZr sd f 16384 c := by
  have e : reZr sd f 16384 c = if sd c = 0 then -1 else 0 := if_pos ⟨c0, c1⟩
  rw [e]
  by_cases z : sd c = 0
  · rw [if_pos z, pif_f (fun h => h.2 z)]; rfl
  · rw [if_neg z, pif_t ⟨⟨c0, c1⟩, z⟩]; rfl
theorem rz3 : (fun c => pif (reS0 sd c) 0 (-1)) = reZr sd (fun _ => -1) 16384 := funext fun c => by
  unfold reZr
  by_cases h : 0 ≤ c ∧ c < 16384
  · rw [if_pos h]
    by_cases z : sd c = 0
    · rw [if_pos z, pif_f (fun y => y.2 z)]
    · rw [if_neg z, pif_t ⟨h, z⟩]
  · rw [if_neg h, pif_f (fun y => h y.1)]
theorem rz4 (c0 : 0 ≤ c) (c1 : c < 16384) : reZg f 16384 c = 0 := by
  unfold reZg
  rw [if_pos ⟨c0, c1⟩]
theorem rz_ci (h : 0 ≤ rzCi hd kd fo ln pt n) : rzAll sd hd kd fo ln pt n = (reZr sd (fun _ => -1) 16384, reZg (fun _ => 0) 16384, 0, 0) := by
  unfold rzAll reRz
  rw [if_pos h]
theorem rz_big (h : rzCi hd kd fo ln pt n = -1) (hb : ¬ (rzSs sd hd kd fo ln pt n).2.2.2 = 0 ∨ 200000 < reWk hd kd fo ln pt (rzSt hd kd fo ln pt n) (rzSs sd hd kd fo ln pt n).1 (-1) (rzSs sd hd kd fo ln pt n).2.2.1 n.toNat) : rzAll sd hd kd fo ln pt n = (reZr sd (rzSs sd hd kd fo ln pt n).1 16384, reZg (reZg (fun _ => 0) 16384) 16384, (rzSs sd hd kd fo ln pt n).2.1, 1) := by
  have e : rzSs sd hd kd fo ln pt n = reSs hd kd fo ln pt (rzSt hd kd fo ln pt n) n 16 0 (reZr sd (fun _ => -1) 16384) 0 0 0 := rfl
  unfold rzAll reRz
  rw [← e, if_neg (by rw [h]; decide)]
  by_cases z : ¬ (rzSs sd hd kd fo ln pt n).2.2.2 = 0
  · rw [if_pos z]
  · rw [if_neg z, if_pos (hb.resolve_left z)]
theorem rz_small (h : rzCi hd kd fo ln pt n = -1) (hg : (rzSs sd hd kd fo ln pt n).2.2.2 = 0) (hb : ¬ 200000 < reWk hd kd fo ln pt (rzSt hd kd fo ln pt n) (rzSs sd hd kd fo ln pt n).1 (-1) (rzSs sd hd kd fo ln pt n).2.2.1 n.toNat) : rzAll sd hd kd fo ln pt n = ((rzSs sd hd kd fo ln pt n).1, (fun c => reZg (fun _ => 0) 16384 c + ((reAl hd kd fo ln pt (rzSt hd kd fo ln pt n) (reHo (rzSs sd hd kd fo ln pt n).1) (-1) n.toNat).count c : Int)), (rzSs sd hd kd fo ln pt n).2.1, 0) := by
  have e : rzSs sd hd kd fo ln pt n = reSs hd kd fo ln pt (rzSt hd kd fo ln pt n) n 16 0 (reZr sd (fun _ => -1) 16384) 0 0 0 := rfl
  unfold rzAll reRz
  rw [← e, if_neg (by rw [h]; decide), if_neg (fun y => y hg), if_neg hb]
theorem reLp_w (I : reI hd kd fo ln pt n) : ∀ (k : Nat) (round : Int) (rn : Int → Int) (t w : Int), 0 ≤ w → (reLp hd kd fo ln pt st n s k round rn t w).2.2.2 = 1 → 200000 < (reLp hd kd fo ln pt st n s k round rn t w).2.2.1
  | 0, _, _, _, _, _, h => by
    rw [reLp] at h
    exact absurd (show (0 : Int) = 1 from h) (by decide)
  | k + 1, round, rn, t, w, hw, h => by
    have w0 := (reWk_b I (w := w) (st := st) (rn := rn) (s := s) n.toNat (by have := I.1; omega)).1
    rw [reLp] at h ⊢
    by_cases hW : 200000 < reWk hd kd fo ln pt st rn s w n.toNat
    · rw [if_pos hW]; exact hW
    · rw [if_neg hW] at h ⊢
      by_cases ex : ∃ c ∈ reAl hd kd fo ln pt st (reHo rn) s n.toNat, rn c < 0
      · rw [pif_t ex] at h ⊢
        exact reLp_w I k _ _ _ _ (by omega) h
      · rw [pif_f ex] at h
        exact absurd (show (0 : Int) = 1 from h) (by decide)
theorem reSs_w (I : reI hd kd fo ln pt n) : ∀ (j : Nat) (s : Int) (rn : Int → Int) (t w g : Int), (g = 0 ∧ 0 ≤ w ∧ w ≤ 200000 ∨ g = 1 ∧ 200000 < w) → ((reSs hd kd fo ln pt st n j s rn t w g).2.2.2 = 0 ∧ 0 ≤ (reSs hd kd fo ln pt st n j s rn t w g).2.2.1 ∧ (reSs hd kd fo ln pt st n j s rn t w g).2.2.1 ≤ 200000 ∨ (reSs hd kd fo ln pt st n j s rn t w g).2.2.2 = 1 ∧ 200000 < (reSs hd kd fo ln pt st n j s rn t w g).2.2.1)
  | 0, _, _, _, _, _, h => by rw [reSs]; exact h
  | j + 1, s, rn, t, w, g, h => by
    rw [reSs]
    rcases h with ⟨g0, h0, h1⟩ | ⟨g1, h⟩
    · rw [if_pos g0]
      refine reSs_w I j _ _ _ _ _ ?_
      have rb := (reLp_b (st := st) (s := s) I 16385 1 rn t w h0 h1).2
      have rw_ := reLp_w (st := st) (s := s) I 16385 1 rn t w h0
      rcases rb with rb | rb
      · exact Or.inl rb
      · exact Or.inr ⟨rb, rw_ rb⟩
    · rw [if_neg (by omega)]
      exact Or.inr ⟨g1, h⟩
theorem reWk_m {k : Nat} : ∀ d : Nat, reWk hd kd fo ln pt st rn s w k ≤ reWk hd kd fo ln pt st rn s w (k + d)
  | 0 => Int.le_refl _
  | d + 1 => by
    have ih := reWk_m (k := k) d
    rw [← Nat.add_assoc, reWk]
    have pb := (rePr_b (pt := pt) (rn := rn) (r := ((k + d : Nat) : Int)) (ln ((k + d : Nat) : Int)).toNat).1
    by_cases z : reSel hd kd fo ln pt st s ((k + d : Nat) : Int)
    · rw [pif_t z]; omega
    · rw [pif_f z]; exact ih
end
