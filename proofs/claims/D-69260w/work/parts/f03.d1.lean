/-! RightDesk: one state for both sides; the reference (X51) -/
section
variable {g kk a b c : Int → Int} {q k : Int}
/-- whether a condition of kind t holds for ask q, by what those before it (h) are -/
def rdQ (t : Int) (g : Int → Int) (a b c q : Int) (h : Int → Int) : Prop :=
  if t = 0 then q / 768 = a else if t = 1 then g (q / 768) / 2 ^ a.toNat % 2 = 1 else if t = 2 then q / 192 % 4 = a else if t = 3 then q / 32 % 6 = a else if t = 4 then q / 8 % 4 = a else if t = 5 then a ≤ q % 8 ∧ q % 8 ≤ b else
  if t = 6 then h a = 0 else if t = 7 then h a ≠ 0 ∧ h b ≠ 0 else if t = 8 then h a ≠ 0 ∨ h b ≠ 0 else if t = 9 then True else (h a ≠ 0 ∧ h b ≠ 0) ∨ (h a ≠ 0 ∧ h c ≠ 0) ∨ (h b ≠ 0 ∧ h c ≠ 0)
def rdP (g kk a b c : Int → Int) (q k : Int) (h : Int → Int) : Prop := rdQ (kk k) g (a k) (b k) (c k) q h
/-- a condition that was let in as number k -/
def rdG (kk a b c : Int → Int) (k : Int) : Prop := (0 ≤ kk k ∧ kk k ≤ 10) ∧ (kk k = 1 → 0 ≤ a k ∧ a k < 8) ∧ ((kk k = 6 ∨ kk k = 7 ∨ kk k = 8 ∨ kk k = 10) → 0 ≤ a k ∧ a k < k) ∧ ((kk k = 7 ∨ kk k = 8 ∨ kk k = 10) → 0 ≤ b k ∧ b k < k) ∧ (kk k = 10 → 0 ≤ c k ∧ c k < k)
theorem rdP_c {h h' : Int → Int} (hg : rdG kk a b c k) (e : ∀ j, 0 ≤ j → j < k → h j = h' j) : rdP g kk a b c q k h ↔ rdP g kk a b c q k h' := by
  obtain ⟨g1, g2, g3, g4, g5⟩ := hg
  unfold rdP rdQ
  by_cases c6 : kk k = 6
  · have := e _ (g3 (by omega)).1 (g3 (by omega)).2
    rw [this]; simp [c6]
  · by_cases c7 : kk k = 7 ∨ kk k = 8
    · have e1 := e _ (g3 (by omega)).1 (g3 (by omega)).2
      have e2 := e _ (g4 (by omega)).1 (g4 (by omega)).2
      rw [e1, e2]
      rcases c7 with c7 | c7 <;> simp [c7]
    · by_cases c10 : kk k = 10
      · have e1 := e _ (g3 (by omega)).1 (g3 (by omega)).2
        have e2 := e _ (g4 (by omega)).1 (g4 (by omega)).2
        have e3 := e _ (g5 (by omega)).1 (g5 (by omega)).2
        rw [e1, e2, e3]
      · have : kk k = 0 ∨ kk k = 1 ∨ kk k = 2 ∨ kk k = 3 ∨ kk k = 4 ∨ kk k = 5 ∨ kk k = 9 := by omega
        rcases this with w | w | w | w | w | w | w <;> simp [w]
noncomputable def rdV (g kk a b c : Int → Int) (q : Int) : Nat → Int → Int
  | 0 => fun _ => 0
  | n + 1 => updI (rdV g kk a b c q n) n (pif (rdP g kk a b c q n (rdV g kk a b c q n)) 1 0)
noncomputable def rdH (g kk a b c : Int → Int) (q k : Int) : Int := rdV g kk a b c q (k.toNat + 1) k
theorem rdV_H : ∀ {n : Nat} {j : Int}, 0 ≤ j → j < n → rdV g kk a b c q n j = rdH g kk a b c q j
  | 0, j, h0, h => by omega
  | n + 1, j, h0, h => by
    by_cases hj : j = n
    · subst hj; unfold rdH; rw [Int.toNat_natCast]
    · rw [rdV, updI_n hj]; exact rdV_H h0 (by omega)
theorem rdH_eq (h0 : 0 ≤ k) (hg : rdG kk a b c k) : rdH g kk a b c q k = pif (rdP g kk a b c q k (rdH g kk a b c q)) 1 0 := by
  have e : ((k.toNat : Nat) : Int) = k := by omega
  have : rdH g kk a b c q k = pif (rdP g kk a b c q k (rdV g kk a b c q k.toNat)) 1 0 := by
    unfold rdH
    rw [rdV, e, updI_s]
  rw [this]
  exact pif_c (rdP_c hg (fun j a b => rdV_H a (by omega)))
theorem rdH_01 (h0 : 0 ≤ k) (hg : rdG kk a b c k) : rdH g kk a b c q k = 0 ∨ rdH g kk a b c q k = 1 := by
  rw [rdH_eq h0 hg]
  by_cases hp : rdP g kk a b c q k (rdH g kk a b c q)
  · rw [pif_t hp]; simp
  · rw [pif_f hp]; simp
/-- conditions: groups, kinds, numbers, how many -/
def rdC (kk a b c : Int → Int) (nc : Int) : Prop := (0 ≤ nc ∧ nc ≤ 60) ∧ ∀ k, 0 ≤ k → k < nc → rdG kk a b c k
theorem T51_inB {A B : Prop} {v n : Int} (h1 : 0 ≤ v → v < n → B) (h0 : ¬ (0 ≤ v ∧ v < n) → A) : wpX51_in (fun r => (r = 0 → A) ∧ (¬ r = 0 → B)) v n := by
  unfold wpX51_in
  refine ⟨fun a => ⟨fun _ => h0 (by omega), fun q => absurd rfl q⟩, fun a => ⟨fun b => ⟨fun _ => h0 (by omega), fun q => absurd rfl q⟩, fun b => ⟨fun q => absurd q (by decide), fun _ => h1 (by omega) (by omega)⟩⟩⟩
theorem T51_look {post : (Int → Int) → Prop} {h : Int → Int} {n nc : Int} (hC : rdC kk a b c nc) (hq : 0 ≤ q ∧ q < 6144) (hn : 0 ≤ n ∧ n ≤ nc) (hp : ∀ h', (∀ k, 0 ≤ k → k < n → h' k = rdH g kk a b c q k) → post h') : wpX51_look post g kk a b c h q n := by
  have hnc := hC.1
  unfold wpX51_look wpX51_personOf wpX51_versionOf
  refine ⟨hq.1, hq.1, by omega, fun _ e1 => ⟨by omega, fun _ e2 => ⟨by omega, fun _ e3 => ⟨hq.1, ?_⟩⟩⟩⟩
  subst e1 e2 e3
  refine zl2 _ (fun k h => 0 ≤ k ∧ ∀ j, 0 ≤ j → j < k → h j = rdH g kk a b c q j) n ?_ ⟨by omega, fun j x y => by omega⟩ hn.1
  rintro f k h ⟨hk, hh⟩ hN ih
  rw [wX51_look_40]
  refine ⟨fun z => hp h (fun j x y => hh j x (by omega)), fun z => ⟨by omega, fun _ ea _ eb _ ek => ?_⟩⟩
  have hg := hC.2 k hk (by omega)
  have eP := rdP_c (g := g) (q := q) hg hh
  have eH := rdH_eq (g := g) (q := q) hk hg
  have nxt : ∀ v : Int, (v = 1 ∧ rdP g kk a b c q k h ∨ v = 0 ∧ ¬ rdP g kk a b c q k h) → ∀ h2 : Int → Int, h2 = updI h k v → (zR (k + 1) ∧ ∀ x : Int, x = k + 1 → wX51_look_40 (fun f_holds_163 => post f_holds_163) n (q / 768) (q / 192 % 4) (q / 32 % 6) (q / 8 % 4) (q % 8) g kk a b c f x h2) := by
    intro v hv h2 e2
    subst e2
    refine ⟨by omega, fun _ e1 => ?_⟩
    subst e1
    refine ih _ (by omega) ⟨by omega, fun j x y => ?_⟩
    by_cases hj : j = k
    · subst hj
      rw [updI_s, eH]
      rcases hv with ⟨e, w⟩ | ⟨e, w⟩
      · rw [e, pif_t (eP.mp w)]
      · rw [e, pif_f (fun z => w (eP.mpr z))]
    · rw [updI_n hj]; exact hh j x (by omega)
  have nxt1 := fun w : rdP g kk a b c q k h => nxt 1 (Or.inl ⟨rfl, w⟩)
  have nxt0 := fun w : ¬ rdP g kk a b c q k h => nxt 0 (Or.inr ⟨rfl, w⟩)
  obtain ⟨g1, g2, g3, g4, g5⟩ := hg
  subst ea eb ek
  unfold rdP at nxt1 nxt0
  refine ⟨fun z => ⟨fun y => nxt1 (by rw [z]; simpa [rdQ] using y), fun y => nxt0 (by rw [z]; simpa [rdQ] using y)⟩, fun z0 => ⟨fun z => ⟨by omega, by omega, fun y => nxt1 (by rw [z]; simpa [rdQ] using y), fun y => nxt0 (by rw [z]; simpa [rdQ] using y)⟩, fun z1 => ⟨fun z => ⟨fun y => nxt1 (by rw [z]; simpa [rdQ] using y), fun y => nxt0 (by rw [z]; simpa [rdQ] using y)⟩, fun z2 => ⟨fun z => ⟨fun y => nxt1 (by rw [z]; simpa [rdQ] using y), fun y => nxt0 (by rw [z]; simpa [rdQ] using y)⟩, fun z3 => ⟨fun z => ⟨fun y => nxt1 (by rw [z]; simpa [rdQ] using y), fun y => nxt0 (by rw [z]; simpa [rdQ] using y)⟩, fun z4 => ⟨fun z => ⟨fun y => nxt0 (by rw [z]; simp [rdQ]; omega), fun y => ⟨fun y2 => nxt0 (by rw [z]; simp [rdQ]; omega), fun y2 => nxt1 (by rw [z]; simp [rdQ]; omega)⟩⟩, fun z5 => ⟨fun z => ⟨by omega, fun y => nxt1 (by rw [z]; simpa [rdQ] using y), fun y => nxt0 (by rw [z]; simpa [rdQ] using y)⟩, fun z6 => ⟨fun z => ⟨by omega, fun y => nxt0 (by rw [z]; simp [rdQ, y]), fun y => ⟨by omega, fun y2 => nxt0 (by rw [z]; simp [rdQ, y2]), fun y2 => nxt1 (by rw [z]; simp [rdQ, y, y2])⟩⟩, fun z7 => ⟨fun z => ⟨by omega, fun y => ⟨by omega, fun y2 => nxt0 (by rw [z]; simp [rdQ, y, y2]), fun y2 => nxt1 (by rw [z]; simp [rdQ, y2])⟩, fun y => nxt1 (by rw [z]; simp [rdQ, y])⟩, fun z8 => ⟨fun z => nxt1 (by rw [z]; simp [rdQ]), fun z9 => fun _ ec => ⟨by omega, fun y => ?_, fun y => ?_⟩⟩⟩⟩⟩⟩⟩⟩⟩⟩⟩
  all_goals
    subst ec
    have z : kk k = 10 := by omega
    rw [z] at nxt0 nxt1
    unfold rdQ at nxt0 nxt1
    simp only [show ¬ (10 : Int) = 0 by decide, show ¬ (10 : Int) = 1 by decide, show ¬ (10 : Int) = 2 by decide, show ¬ (10 : Int) = 3 by decide, show ¬ (10 : Int) = 4 by decide, show ¬ (10 : Int) = 5 by decide, show ¬ (10 : Int) = 6 by decide, show ¬ (10 : Int) = 7 by decide, show ¬ (10 : Int) = 8 by decide, show ¬ (10 : Int) = 9 by decide, if_false] at nxt0 nxt1
    unfold wX51_look_350 wX51_look_381
    refine ⟨by omega, fun y2 => ⟨by omega, fun y3 => ⟨by omega, by omega, fun y4 => ⟨by omega, nxt0 (by omega)⟩, fun y4 => ⟨by omega, nxt1 (by omega)⟩⟩, fun y3 => ⟨by omega, by omega, fun y4 => ⟨by omega, nxt0 (by omega)⟩, fun y4 => ⟨by omega, nxt1 (by omega)⟩⟩⟩, fun y2 => ⟨by omega, fun y3 => ⟨by omega, by omega, fun y4 => ⟨by omega, nxt0 (by omega)⟩, fun y4 => ⟨by omega, nxt1 (by omega)⟩⟩, fun y3 => ⟨by omega, by omega, fun y4 => ⟨by omega, nxt0 (by omega)⟩, fun y4 => ⟨by omega, nxt1 (by omega)⟩⟩⟩⟩
end
/-- rules: rank, whether it denies, its condition; the one that decides -/
noncomputable def rdB (rk dn wn H : Int → Int) (w : Int) : Nat → Int
  | 0 => -1
  | r + 1 => pif ((r : Int) = w ∨ H (wn r) = 0) (rdB rk dn wn H w r) (pif (rdB rk dn wn H w r < 0 ∨ rk r < rk (rdB rk dn wn H w r) ∨ (rk r = rk (rdB rk dn wn H w r) ∧ dn r ≠ 0 ∧ dn (rdB rk dn wn H w r) = 0)) r (rdB rk dn wn H w r))
theorem rdB_b (rk dn wn H : Int → Int) (w : Int) : ∀ r : Nat, -1 ≤ rdB rk dn wn H w r ∧ rdB rk dn wn H w r < r
  | 0 => by unfold rdB; omega
  | r + 1 => by
    have ih := rdB_b rk dn wn H w r
    unfold rdB
    by_cases h1 : (r : Int) = w ∨ H (wn r) = 0
    · rw [pif_t h1]; omega
    · rw [pif_f h1]
      by_cases h2 : rdB rk dn wn H w r < 0 ∨ rk r < rk (rdB rk dn wn H w r) ∨ (rk r = rk (rdB rk dn wn H w r) ∧ dn r ≠ 0 ∧ dn (rdB rk dn wn H w r) = 0)
      · rw [pif_t h2]; omega
      · rw [pif_f h2]; omega
theorem rdB_c {rk dn wn H H' : Int → Int} {w : Int} : ∀ {r : Nat}, (∀ j : Int, 0 ≤ j → j < r → H (wn j) = H' (wn j)) → rdB rk dn wn H w r = rdB rk dn wn H' w r
  | 0, _ => rfl
  | r + 1, h => by unfold rdB; rw [rdB_c (r := r) (fun j a b => h j a (by omega)), h r (by omega) (by omega)]
def rdR (rk dn wn : Int → Int) (nr nc : Int) : Prop := (0 ≤ nr ∧ nr ≤ 20) ∧ ∀ r, 0 ≤ r → r < nr → (0 ≤ rk r ∧ rk r < 10) ∧ (dn r = 0 ∨ dn r = 1) ∧ (0 ≤ wn r ∧ wn r < nc)
section
variable {rk dn wn : Int → Int} {nr nc : Int}
theorem T51_decide {post : Int → Prop} {H : Int → Int} {w : Int} (hR : rdR rk dn wn nr nc) (hnc : nc ≤ 60) (hp : post (rdB rk dn wn H w nr.toNat)) : wpX51_decide post rk dn wn nr H w := by
  obtain ⟨hnr, hr⟩ := hR
  unfold wpX51_decide
  refine wl2 (fun n x2 x3 => wX51_decide_4 _ w rk dn wn nr H n x2 x3) (fun x2 x3 => (0 ≤ x3 ∧ x3 ≤ nr) ∧ x2 = rdB rk dn wn H w x3.toNat) (fun x2 x3 => (nr - x3).toNat) ?_ (-1) 0 ⟨by omega, rfl⟩
  rintro x2 x3 ⟨h3, e2⟩ n ih
  rw [wX51_decide_4]
  have hb := rdB_b rk dn wn H w x3.toNat
  rw [← e2] at hb
  have en : (x3 + 1).toNat = x3.toNat + 1 := by omega
  have ec : ((x3.toNat : Nat) : Int) = x3 := by omega
  have nxt : x3 < nr → ∀ v, v = rdB rk dn wn H w (x3.toNat + 1) → (zR (x3 + 1) ∧ ∀ x : Int, x = x3 + 1 → wX51_decide_4 (fun x2_34 => post x2_34) w rk dn wn nr H n v x) := by
    intro hlt v hv
    refine ⟨by omega, fun _ e1 => ?_⟩
    subst e1
    exact ih _ _ ⟨by omega, by rw [en]; exact hv⟩ (by omega)
  rw [rdB, ec, ← e2] at nxt
  refine ⟨fun z => ?_, fun z => ⟨fun z1 => nxt (by omega) x2 (by rw [pif_t (Or.inl z1)]), fun z1 => ?_⟩⟩
  · have : x3 = nr := by omega
    subst this; rw [e2]; exact hp
  · have hrr := hr x3 h3.1 (by omega)
    have y86 : ¬ H (wn x3) = 0 → (x2 < 0 ∨ rk x3 < rk x2 ∨ (rk x3 = rk x2 ∧ dn x3 ≠ 0 ∧ dn x2 = 0)) → wX51_decide_86 (wX51_decide_4 (fun x2_34 => post x2_34) w rk dn wn nr H n) x2 x3 := by
      intro h1 h2
      unfold wX51_decide_86
      exact ⟨fun y => absurd y (by decide), fun _ => nxt (by omega) x3 (by rw [pif_f (fun y => y.elim z1 h1), pif_t h2])⟩
    have y90 : ¬ H (wn x3) = 0 → ¬ (x2 < 0 ∨ rk x3 < rk x2 ∨ (rk x3 = rk x2 ∧ dn x3 ≠ 0 ∧ dn x2 = 0)) → wX51_decide_90 (wX51_decide_4 (fun x2_34 => post x2_34) w rk dn wn nr H n) x2 x3 := by
      intro h1 h2
      unfold wX51_decide_90
      exact ⟨fun _ => nxt (by omega) x2 (by rw [pif_f (fun y => y.elim z1 h1), pif_f h2]), fun y => absurd rfl y⟩
    refine ⟨by omega, by omega, fun z2 => nxt (by omega) x2 (by rw [pif_t (Or.inr z2)]), fun z2 => ⟨fun z3 => y86 z2 (by omega), fun z3 => ⟨by omega, fun z4 => y86 z2 (by omega), fun z4 => ⟨fun z5 => ⟨fun z6 => y90 z2 (by omega), fun z6 => ⟨fun z7 => y86 z2 (by omega), fun z7 => y90 z2 (by omega)⟩⟩, fun z5 => y90 z2 (by omega)⟩⟩⟩⟩
end
