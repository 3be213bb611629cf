/-! rows of other rooms' texts (not for the whole: txS stands in pcb) -/
def txS (so : kSo) (a : Nat) (L : List Int) : Prop := so.k a = 1 ∧ so.k (so.v a) = 2 ∧ so.n (so.v a) = L.length ∧ ∀ i : Nat, i < L.length → zTab (so.c (so.v a)) (i : Int) = L.getD i 0 ∧ (0 ≤ L.getD i 0 ∧ L.getD i 0 < 128)

/-! DatatypeValues, the component (room DV): quotients, days; the reader's small steps -/
/-- the reader p goes over sz bytes tp, which lie at qt -/
def dvR (kd an : Nat → Nat) (ai : Nat → Int → Int) (mT : Nat → Option Nat) (mS : Nat → Int) (mW : Nat → Option Nat) (sa : Nat → Nat) (p qt : Nat) (tp : Int → Int) (sz : Int) : Prop := (mT p = some qt ∧ kd qt = 10 ∧ an qt = 64 ∧ ai qt = tp) ∧ mS p = sz ∧ mW p = some (sa 20) ∧ kd p = 3
/-- how a reading of a step ends: it goes on at a place with a number, or is thrown -/
def dvGo (post : Int → (Nat → Int) → (Nat → Int) → Prop) (px : Nat → (Nat → Int) → (Nat → Int) → Prop) (m pl : Nat → Int) (p : Nat) (sz : Int) (r : Int × Int × Int) : Prop :=
  (r.1 = -1 → dvG sz r.2.1 → post r.2.2 (va_up m p r.2.1) pl) ∧ (0 ≤ r.1 → ∀ a, px 2 (va_up m p a) (va_up pl p r.1))
section
variable {x b y m d : Int}
theorem zb_63 (hx : zL x) : zb x 63 = 1 ↔ x < 0 := by
  unfold zL at hx
  show x / 9223372036854775808 % 2 = 1 ↔ x < 0
  omega
theorem zLx_s (hx : zL x) (hb : zL b) (h0 : 0 < b) : 0 ≤ zLxor x b ↔ 0 ≤ x := by
  have e := zb_xor64 hx hb (k := 63) (by decide)
  have e1 := zb_63 (zr_xor64 x b)
  have e2 := zb_63 hx
  have e3 := zb_63 hb
  rw [e1, e2, e3] at e
  omega
theorem CDV_floorDiv {post : Int → Prop} (h0 : 0 < b) (hx2 : -4000000000000000000 ≤ x ∧ x ≤ 4000000000000000000) (hb : zL b) (hp : post (x / b)) : wpDV_J6_floorDiv post x b := by
  have hx : zL x := by omega
  have s := zLx_s hx hb h0
  have tl := dv_tl (x := x) h0
  have e1 := Int.tdiv_eq_ediv (a := x) (b := b)
  rw [Int.sign_eq_one_of_pos h0] at e1
  unfold wpDV_J6_floorDiv
  refine ⟨by omega, by unfold zL; omega, fun t et => ⟨fun z => ?_, fun z => ?_⟩⟩
  · rw [if_pos (Or.inl (s.mp z)), ← et] at e1
    rw [show t = x / b by omega]; exact hp
  · have xn : x < 0 := by omega
    by_cases c : b ∣ x
    · rw [if_pos (Or.inr c), ← et] at e1
      have e2 : t * b = x := by rw [show t = x / b by omega]; exact Int.ediv_mul_cancel c
      rw [e2]
      exact ⟨hx, fun _ => by rw [show t = x / b by omega]; exact hp, fun q => absurd rfl q⟩
    · rw [if_neg (by omega), ← et] at e1
      have em := Int.mul_ediv_add_emod x b
      have l := Int.emod_lt_of_pos x h0
      have l0 := Int.emod_nonneg x (show b ≠ 0 by omega)
      have dn : x / b ≤ -1 := by
        have := Int.ediv_neg_of_neg_of_pos xn h0
        omega
      have pm := Int.mul_le_mul_of_nonneg_left dn (show 0 ≤ b by omega)
      have e2 : t * b = b * (x / b) + b := by rw [e1, Int.add_mul, Int.one_mul, Int.mul_comm]
      rw [e2]
      refine ⟨by unfold zL; omega, fun q => ?_, fun q => ⟨by unfold zL; omega, by rw [show t - 1 = x / b by omega]; exact hp⟩⟩
      exact absurd ⟨x / b + 1, by rw [Int.mul_add, Int.mul_one]; omega⟩ c
theorem CDV_floorMod {post : Int → Prop} (h0 : 0 < b) (hx2 : -4000000000000000000 ≤ x ∧ x ≤ 4000000000000000000) (hb : zL b) (hp : post (x % b)) : wpDV_J6_floorMod_2 post x b := by
  have hx : zL x := by omega
  have s := zLx_s hx hb h0
  have tl := dv_tl (x := x) h0
  have e1 := Int.tmod_eq_emod (a := x) (b := b)
  have l := Int.emod_lt_of_pos x h0
  have l0 := Int.emod_nonneg x (show b ≠ 0 by omega)
  have hb2 := hb
  unfold zL at hb2
  unfold wpDV_J6_floorMod_2
  refine ⟨by omega, by unfold zL; omega, fun t et => ⟨fun z => ?_, fun z => ⟨fun z2 => ?_, fun z2 => ?_⟩⟩⟩
  · rw [if_pos (Or.inl (s.mp z)), ← et] at e1
    rw [show t = x % b by omega]; exact hp
  · by_cases c : b ∣ x
    · rw [if_pos (Or.inr c), ← et] at e1
      rw [show t = x % b by omega]; exact hp
    · rw [if_neg (by omega), ← et] at e1
      omega
  · by_cases c : b ∣ x
    · rw [if_pos (Or.inr c), ← et] at e1
      have := Int.emod_eq_zero_of_dvd c
      omega
    · rw [if_neg (by omega), ← et] at e1
      rw [show t + b = x % b by omega]
      exact ⟨by unfold zL; omega, hp⟩
theorem CDV_of {post : Int → Prop} (hy : -1000000000 ≤ y ∧ y ≤ 1000000000) (hm : 1 ≤ m ∧ m ≤ 12) (hd : -1000 ≤ d ∧ d ≤ 1000) (hp : post (dvOf y m d)) : wpDV_X71_of post y m d := by
  have go : ∀ y' m' : Int, (-1000000001 ≤ y' ∧ y' ≤ 1000000000) → (0 ≤ m' ∧ m' ≤ 20) → post (365 * y' + y' / 4 - y' / 100 + y' / 400 + (153 * m' + 2) / 5 + d - 719469) → wDV_X71_of_29 post d y' m' := fun y' m' a1 a2 h => by
    unfold wDV_X71_of_29
    exact CDV_floorDiv (by decide) (by omega) (by decide) (CDV_floorDiv (by decide) (by omega) (by decide) (CDV_floorDiv (by decide) (by omega) (by decide) ⟨by omega, by omega, by omega, h⟩))
  unfold dvOf at hp
  unfold wpDV_X71_of
  refine ⟨fun q => ⟨fun _ => ⟨by omega, go _ _ (by omega) (by omega) ?_⟩, fun w => absurd q w⟩, fun q => ⟨by omega, fun y2 e2 => ⟨fun w => absurd w q, fun _ => ⟨by omega, go _ _ (by omega) (by omega) ?_⟩⟩⟩⟩
  · rw [if_neg (by omega), if_neg (by omega)] at hp; exact hp
  · rw [if_pos (by omega), if_pos (by omega)] at hp; rw [e2]; exact hp
theorem dv_tm {g : Int} : Int.tmod y g = 0 ↔ y % g = 0 := by rw [← Int.dvd_iff_tmod_eq_zero, Int.dvd_iff_emod_eq_zero]
theorem dv_tlz {g : Int} (hy : -2000000000000 ≤ y ∧ y ≤ 2000000000000) (hg : 0 < g) : zL (Int.tdiv y g) := by
  have := dv_tl (x := y) hg
  unfold zL
  omega
theorem CDV_length {post : Int → Prop} (hy : -2000000000000 ≤ y ∧ y ≤ 2000000000000) (hp : post (dvLn y m)) : wpDV_X71_length post y m := by
  unfold dvLn at hp
  unfold wpDV_X71_length wpDV_X71_isLeap
  refine ⟨fun q => ?_, fun q => ?_⟩
  · rw [if_pos q] at hp
    have h29 : dvLp y → ((1 : Int) = 0 → post 28) ∧ (¬ (1 : Int) = 0 → post 29) := fun w => by
      rw [pif_t w] at hp
      exact ⟨fun z => absurd z (by decide), fun _ => hp⟩
    have h28 : ¬ dvLp y → ((0 : Int) = 0 → post 28) ∧ (¬ (0 : Int) = 0 → post 29) := fun w => by
      rw [pif_f w] at hp
      exact ⟨fun _ => hp, fun z => absurd rfl z⟩
    unfold dvLp at h28 h29
    rw [← dv_tm (y := y) (g := 4), ← dv_tm (y := y) (g := 100), ← dv_tm (y := y) (g := 400)] at h28 h29
    exact ⟨dv_tlz hy (by decide), fun a => ⟨dv_tlz hy (by decide), fun c => ⟨dv_tlz hy (by decide), fun e => h29 ⟨a, Or.inr e⟩, fun e => h28 (fun w => w.2.elim (fun v => v c) e)⟩, fun c => h29 ⟨a, Or.inl c⟩⟩, fun a => h28 (fun w => a w.1)⟩
  · rw [if_neg q] at hp
    refine ⟨fun a => ?_, fun a => ⟨fun c => ?_, fun c => ⟨fun e => ?_, fun e => ⟨fun f => ?_, fun f => ?_⟩⟩⟩⟩
    · rw [if_pos (by omega)] at hp; exact hp
    · rw [if_pos (by omega)] at hp; exact hp
    · rw [if_pos (by omega)] at hp; exact hp
    · rw [if_pos (by omega)] at hp; exact hp
    · rw [if_neg (by omega)] at hp; exact hp
end
section
variable {kd : Nat → Nat} {an : Nat → Nat} {ai : Nat → Int → Int} {al : Nat → Int → Int} {ar : Nat → Int → Option Nat} {mX6_tape : Nat → Option Nat} {mX6_size : Nat → Int} {mX6_values : Nat → Option Nat} {mX6_count : Nat → Int} {mX6_writer : Nat → Option Nat} {mX7_bytes : Nat → Option Nat} {mX7_size : Nat → Int} {mX67_tape : Nat → Option Nat} {mX67_size : Nat → Int} {mX67_at : Nat → Int} {mX67_wrong : Nat → Option Nat} {mX67_place : Nat → Int} {mX68_kind : Nat → Int} {mX69_upper : Nat → Int} {mX69_lower : Nat → Int} {mX70_is : Nat → Int} {mX72_millis : Nat → Int} {mX72_zone : Nat → Int} {mX73_months : Nat → Int} {mX73_millis : Nat → Int} {mX74_bytes : Nat → Option Nat} {sa : Nat → Nat} {so : kSo} {p qt : Nat} {tp : Int → Int} {sz a b x w lo hi least : Int} {most : Nat} {MC MS : Nat}
theorem CDV_here {post : Int → Prop} (R : dvR kd an ai mX67_tape mX67_size mX67_wrong sa p qt tp sz) (h : dvA sz a) (hp : post (dvH tp sz a)) : wpDV_X67_here post kd an ai mX67_tape mX67_size (va_up mX67_at p a) p := by
  unfold wpDV_X67_here
  unfold dvH at hp
  unfold dvA at h
  rw [R.2.1, va_up_self]
  refine ⟨fun z => ?_, fun z => kOn_of R.1.1 ⟨R.1.2.1, by rw [R.1.2.2.1]; omega, ?_⟩⟩
  · rw [if_neg (by omega)] at hp; exact hp
  · rw [if_pos (by omega)] at hp; rw [R.1.2.2.2]; exact hp
theorem CDV_isDigitB {X Y : Prop} (R : dvR kd an ai mX67_tape mX67_size mX67_wrong sa p qt tp sz) (h : dvA sz a) (h1 : dvD tp sz a → Y) (h0 : ¬ dvD tp sz a → X) : wpDV_X67_isDigit (fun r => (r = 0 → X) ∧ (¬ r = 0 → Y)) kd an ai mX67_tape mX67_size (va_up mX67_at p a) p := by
  unfold wpDV_X67_isDigit
  unfold dvD at h1 h0
  exact CDV_here R h ⟨fun z => ⟨fun _ => h0 (by omega), fun q => absurd rfl q⟩, fun z => CDV_here R h ⟨fun z2 => ⟨fun _ => h0 (by omega), fun q => absurd rfl q⟩, fun z2 => ⟨fun q => absurd q (by decide), fun _ => h1 (by omega)⟩⟩⟩
theorem CDV_takes {post : Int → (Nat → Int) → Prop} (R : dvR kd an ai mX67_tape mX67_size mX67_wrong sa p qt tp sz) (h : dvA sz a) (h1 : dvH tp sz a = b → post 1 (va_up mX67_at p (a + 1))) (h0 : ¬ dvH tp sz a = b → post 0 (va_up mX67_at p a)) : wpDV_X67_takes post kd an ai mX67_tape mX67_size (va_up mX67_at p a) p b := by
  have h2 := h
  unfold dvA at h2
  unfold wpDV_X67_takes
  refine CDV_here R h ⟨fun e => ⟨by rw [va_up_self]; omega, fun v ev m em => ?_⟩, h0⟩
  rw [em, ev, va_up_self, va_up_up]
  exact h1 e
theorem CDV_need {post : (Nat → Int) → Prop} {px : Nat → (Nat → Int) → Prop} (R : dvR kd an ai mX67_tape mX67_size mX67_wrong sa p qt tp sz) (h1 : ¬ x = 0 → post mX67_place) (h0 : x = 0 → px 2 (va_up mX67_place p w)) : wpDV_X67_need MC MS post px mX67_wrong mX67_place sa p x w := by
  unfold wpDV_X67_need
  exact ⟨fun z pl ep => kOn_of R.2.2.1 ⟨rfl, Nat.zero_le _, Nat.zero_le _, by rw [ep]; exact h0 z⟩, fun z => ⟨Nat.zero_le _, Nat.zero_le _, h1 z⟩⟩
theorem CDV_want {post : (Nat → Int) → (Nat → Int) → Prop} {px : Nat → (Nat → Int) → (Nat → Int) → Prop} (R : dvR kd an ai mX67_tape mX67_size mX67_wrong sa p qt tp sz) (h : dvA sz a) (h1 : dvH tp sz a = b → post (va_up mX67_at p (a + 1)) mX67_place) (h0 : ¬ dvH tp sz a = b → px 2 (va_up mX67_at p a) (va_up mX67_place p a)) : wpDV_X67_want MC MS post px kd an ai mX67_tape mX67_size (va_up mX67_at p a) mX67_wrong mX67_place sa p b := by
  unfold wpDV_X67_want
  refine ⟨⟨Nat.zero_le _, Nat.zero_le _⟩, CDV_takes R h (fun e => ⟨0, 0, ⟨Nat.zero_le _, Nat.zero_le _⟩, CDV_need R (fun _ => ⟨Nat.zero_le _, Nat.zero_le _, h1 e⟩) (fun q => absurd q (by decide))⟩) (fun e => ⟨0, 0, ⟨Nat.zero_le _, Nat.zero_le _⟩, CDV_need R (fun q => absurd rfl q) (fun _ => ?_)⟩)⟩
  rw [va_up_self]; exact h0 e
theorem CDV_digits {post : Int → (Nat → Int) → (Nat → Int) → Prop} {px : Nat → (Nat → Int) → (Nat → Int) → Prop} (R : dvR kd an ai mX67_tape mX67_size mX67_wrong sa p qt tp sz) (h : dvA sz a) (hm : most ≤ 9) (H1 : (dvDg tp sz least most a).1 = -1 → post (dvDg tp sz least most a).2.2 (va_up mX67_at p (dvDg tp sz least most a).2.1) mX67_place) (H0 : 0 ≤ (dvDg tp sz least most a).1 → ∀ a', px 2 (va_up mX67_at p a') (va_up mX67_place p (dvDg tp sz least most a).1)) : wpDV_X67_digits MC MS post px kd an ai mX67_tape mX67_size (va_up mX67_at p a) mX67_wrong mX67_place sa p least most := by
  have h2 := h
  unfold dvA at h2
  have N := dvN_s (tp := tp) (sz := sz) (at_ := a) (most := most)
  unfold wpDV_X67_digits
  have fin : ∀ k : Int, k = dvN tp sz a most → wDV_X67_digits_50 MC MS post px p least (dvV tp a k.toNat) k (va_up mX67_at p (a + k)) mX67_wrong mX67_place sa 0 0 := fun k ek => by
    have n0 : 0 ≤ k := by omega
    unfold wDV_X67_digits_50
    unfold dvDg at H1 H0
    dsimp only at H1 H0
    rw [← ek] at H1 H0
    refine ⟨fun z => ⟨0, 0, ⟨Nat.zero_le _, Nat.zero_le _⟩, CDV_need R (fun q => absurd rfl q) (fun _ => ?_)⟩, fun z => ⟨0, 0, ⟨Nat.zero_le _, Nat.zero_le _⟩, CDV_need R (fun _ => ⟨Nat.zero_le _, Nat.zero_le _, ?_⟩) (fun q => absurd q (by decide))⟩⟩
    · rw [if_pos z] at H0
      rw [va_up_self]; exact H0 (by omega) _
    · rw [if_neg z] at H1
      exact H1 rfl
  refine wl3 (fun d x3 x5 m => wDV_X67_digits_5 MC MS _ p most kd an ai mX67_tape mX67_size 0 0 d x3 x5 m) (fun x3 x5 m => (0 ≤ x5 ∧ x5 ≤ dvN tp sz a most) ∧ x3 = dvV tp a x5.toNat ∧ m = va_up mX67_at p (a + x5)) (fun _ x5 _ => (dvN tp sz a most - x5).toNat) ?_ 0 0 (va_up mX67_at p a) ⟨by omega, rfl, by rw [Int.add_zero]⟩
  rintro x3 x5 m ⟨hx, e3, rfl⟩ d ih
  rw [wDV_X67_digits_5, e3]
  have hA : dvA sz (a + x5) := by
    have := dvN_z (tp := tp) (sz := sz) (at_ := a) (most := most)
    unfold dvA; omega
  refine ⟨fun q => fin x5 (by omega), fun q => ⟨⟨Nat.zero_le _, Nat.zero_le _⟩, CDV_isDigitB R hA (fun D => ⟨⟨Nat.zero_le _, Nat.zero_le _⟩, CDV_here R hA ?_⟩) (fun D => fin x5 ?_)⟩⟩
  · have dv := dvD_v D
    have vb := dvV_b (tp := tp) (sz := sz) (at_ := a) x5.toNat (fun j u w => N.2.2 j u (by omega))
    have pw : ∀ n : Nat, n ≤ 9 → (10 : Int) ^ n ≤ 1000000000 := by decide
    have pb := pw x5.toNat (by omega)
    have lt : x5 < dvN tp sz a most := by
      have : ¬ dvN tp sz a most = x5 := fun w => N.2.1 (by omega) (by rw [w]; exact D)
      omega
    rw [dv.2.1]
    refine ⟨by omega, fun v ev => ⟨by rw [va_up_self]; omega, fun a2 ea2 m2 em2 => ⟨by omega, fun k2 ek2 => ?_⟩⟩⟩
    rw [va_up_self] at ea2
    rw [va_up_up] at em2
    subst ev ek2
    rw [em2, ea2]
    refine ih _ _ _ ⟨by omega, ?_, by rw [Int.add_assoc]⟩ (by omega)
    rw [show (x5 + 1).toNat = x5.toNat + 1 by omega, dvV, show ((x5.toNat : Nat) : Int) = x5 by omega]
  · refine Classical.byContradiction (fun w => D (N.2.2 x5 hx.1 (by omega)))
theorem CDV_two {post : Int → (Nat → Int) → (Nat → Int) → Prop} {px : Nat → (Nat → Int) → (Nat → Int) → Prop} (R : dvR kd an ai mX67_tape mX67_size mX67_wrong sa p qt tp sz) (h : dvG sz a) (H1 : (dvPr tp sz lo hi a).1 = -1 → dvG sz (dvPr tp sz lo hi a).2.1 → post (dvPr tp sz lo hi a).2.2 (va_up mX67_at p (dvPr tp sz lo hi a).2.1) mX67_place) (H0 : 0 ≤ (dvPr tp sz lo hi a).1 → ∀ a', px 2 (va_up mX67_at p a') (va_up mX67_place p (dvPr tp sz lo hi a).1)) : wpDV_X67_two MC MS post px kd an ai mX67_tape mX67_size (va_up mX67_at p a) mX67_wrong mX67_place sa p lo hi := by
  have G := dvG_pr (tp := tp) (lo := lo) (hi := hi) h
  have C := dvPr_c (tp := tp) (sz := sz) (lo := lo) (hi := hi) (at_ := a) h.1
  have B := dvV_2 (tp := tp) (sz := sz) (least := 2) (most := 2) (at_ := a) (Nat.le_refl 2)
  have B0 := dvDg_b (tp := tp) (sz := sz) (least := 2) (most := 2) (at_ := a) (by decide)
  unfold wpDV_X67_two
  refine fun x3 e3 => ⟨0, 0, ⟨Nat.zero_le _, Nat.zero_le _⟩, CDV_digits (least := 2) (most := 2) R h.a (by decide) (fun e1 => ⟨by omega, fun v ev => ?_⟩) (fun e1 a' => ?_)⟩
  · rw [va_up_self] at e3
    have bad : ¬ (lo ≤ (dvDg tp sz 2 2 a).2.2 ∧ (dvDg tp sz 2 2 a).2.2 ≤ hi) → px 2 (va_up mX67_at p (dvDg tp sz 2 2 a).2.1) (va_up mX67_place p x3) := fun w => by
      have e : (dvPr tp sz lo hi a).1 = a := by unfold dvPr; rw [if_neg (by omega), if_neg w]
      have := H0 (by rw [e]; exact h.1) (dvDg tp sz 2 2 a).2.1
      rw [e] at this; rw [e3]; exact this
    have ok : lo ≤ (dvDg tp sz 2 2 a).2.2 ∧ (dvDg tp sz 2 2 a).2.2 ≤ hi → post v (va_up mX67_at p (dvDg tp sz 2 2 a).2.1) mX67_place := fun w => by
      have := H1 (C.2.1.mpr ⟨e1, w⟩) G
      rw [C.1] at this; rw [ev]; exact this
    refine ⟨fun l => ⟨0, 0, ⟨Nat.zero_le _, Nat.zero_le _⟩, CDV_need R (fun q => absurd rfl q) (fun _ => bad (by omega))⟩, fun l => ⟨fun g => ⟨0, 0, ⟨Nat.zero_le _, Nat.zero_le _⟩, CDV_need R (fun q => absurd rfl q) (fun _ => bad (by omega))⟩, fun g => ⟨0, 0, ⟨Nat.zero_le _, Nat.zero_le _⟩, CDV_need R (fun _ => ⟨Nat.zero_le _, Nat.zero_le _, ok (by omega)⟩) (fun q => absurd q (by decide))⟩⟩⟩
  · have e : (dvPr tp sz lo hi a).1 = (dvDg tp sz 2 2 a).1 := by unfold dvPr; rw [if_pos e1]
    have := H0 (by rw [e]; exact e1) a'
    rw [e] at this; exact this
end

/-! DatatypeValues, the component: days, zones, parts of a second are read -/
section
variable {kd : Nat → Nat} {an : Nat → Nat} {ai : Nat → Int → Int} {al : Nat → Int → Int} {ar : Nat → Int → Option Nat} {mX6_tape : Nat → Option Nat} {mX6_size : Nat → Int} {mX6_values : Nat → Option Nat} {mX6_count : Nat → Int} {mX6_writer : Nat → Option Nat} {mX7_bytes : Nat → Option Nat} {mX7_size : Nat → Int} {mX67_tape : Nat → Option Nat} {mX67_size : Nat → Int} {mX67_at : Nat → Int} {mX67_wrong : Nat → Option Nat} {mX67_place : Nat → Int} {mX68_kind : Nat → Int} {mX69_upper : Nat → Int} {mX69_lower : Nat → Int} {mX70_is : Nat → Int} {mX72_millis : Nat → Int} {mX72_zone : Nat → Int} {mX73_months : Nat → Int} {mX73_millis : Nat → Int} {mX74_bytes : Nat → Option Nat} {sa : Nat → Nat} {so : kSo} {p qt : Nat} {tp : Int → Int} {sz a b x w lo hi least sg : Int} {most : Nat} {MC MS : Nat} {post : Int → (Nat → Int) → (Nat → Int) → Prop} {px : Nat → (Nat → Int) → (Nat → Int) → Prop} {r : Int × Int × Int} {k : Int → Int → Int × Int × Int} {m pl : Nat → Int}
theorem dvGo.f (H : dvGo post px m pl p sz (dvB r k)) (h : 0 ≤ r.1) : ∀ a, px 2 (va_up m p a) (va_up pl p r.1) := by rw [dvB_f h] at H; exact H.2 h
theorem dvGo.on (H : dvGo post px m pl p sz (dvB r k)) (h : r.1 = -1) : dvGo post px m pl p sz (k r.2.1 r.2.2) := by rw [dvB_k h] at H; exact H
theorem CDV_wr {Post : (Nat → Int) → (Nat → Int) → Prop} (R : dvR kd an ai mX67_tape mX67_size mX67_wrong sa p qt tp sz) (h : dvG sz a) (hb : 0 ≤ b) (H : dvGo post px mX67_at mX67_place p sz (dvB (dvWr tp sz b a) k)) (h1 : dvG sz (a + 1) → dvGo post px mX67_at mX67_place p sz (k (a + 1) 0) → Post (va_up mX67_at p (a + 1)) mX67_place) : wpDV_X67_want MC MS Post px kd an ai mX67_tape mX67_size (va_up mX67_at p a) mX67_wrong mX67_place sa p b := by
  have W := dvWt_1 (tp := tp) (sz := sz) (b := b) (at_ := a) h.1
  refine CDV_want R h.a (fun e => h1 (dvG_w h e hb) (H.on (r := dvWr tp sz b a) (by show dvWt tp sz b a = -1; omega))) (fun e => ?_)
  have e2 : dvWt tp sz b a = a := by omega
  have := H.f (r := dvWr tp sz b a) (by show 0 ≤ dvWt tp sz b a; have := h.1; omega) a
  rw [show (dvWr tp sz b a).1 = a from e2] at this
  exact this
theorem CDV_day (R : dvR kd an ai mX67_tape mX67_size mX67_wrong sa p qt tp sz) (h : dvG sz a) (H : dvGo post px mX67_at mX67_place p sz (dvDy tp sz a)) : wpDV_X67_day MC MS post px kd an ai mX67_tape mX67_size (va_up mX67_at p a) mX67_wrong mX67_place sa p := by
  have G1 := dvG_dg (tp := tp) (least := 4) (most := 4) h
  have Dv := dvV_4 (tp := tp) (sz := sz) (least := 4) (most := 4) (at_ := a) (Nat.le_refl 4)
  have D0 := dvDg_b (tp := tp) (sz := sz) (least := 4) (most := 4) (at_ := a) (by decide)
  unfold dvDy at H
  unfold wpDV_X67_day
  refine fun x1 e1 => ⟨0, 0, ⟨Nat.zero_le _, Nat.zero_le _⟩, CDV_digits (least := 4) (most := 4) R h.a (by decide) (fun e => ⟨by omega, fun y ey => ?_⟩) (fun e a' => H.f e a')⟩
  rw [va_up_self] at e1
  have H := H.on e
  rw [← ey] at H
  refine ⟨fun y0 => ?_, fun y0 => ?_⟩
  · rw [if_pos (by omega)] at H
    unfold wDV_X67_day_23
    refine kOn_some ⟨R.2.2.2, 0, 0, ⟨Nat.zero_le _, Nat.zero_le _⟩, CDV_need R (fun q => absurd rfl q) (fun _ => ?_)⟩
    rw [e1]; exact H.2 h.1 _
  · rw [if_neg (by omega)] at H
    generalize (dvDg tp sz 4 4 a).2.1 = a1 at *
    unfold wDV_X67_day_23
    refine kOn_some ⟨R.2.2.2, 0, 0, ⟨Nat.zero_le _, Nat.zero_le _⟩, CDV_need R (fun _ => ?_) (fun q => absurd q (by decide))⟩
    refine ⟨0, 0, ⟨Nat.zero_le _, Nat.zero_le _⟩, CDV_wr R G1 (by decide) H (fun G2 H => ?_)⟩
    generalize a1 + 1 = a2 at *
    refine ⟨0, 0, ⟨Nat.zero_le _, Nat.zero_le _⟩, CDV_two R G2 (fun e G3 => ?_) (fun e a' => H.f e a')⟩
    have H := H.on e
    have mb := (dvPr_b (tp := tp) (sz := sz) (lo := 1) (hi := 12) (at_ := a2) G2.1).2.2 e
    generalize (dvPr tp sz 1 12 a2).2.1 = a3 at *
    generalize (dvPr tp sz 1 12 a2).2.2 = mo at *
    refine ⟨0, 0, ⟨Nat.zero_le _, Nat.zero_le _⟩, CDV_wr R G3 (by decide) H (fun G4 H => ?_)⟩
    generalize a3 + 1 = a4 at *
    refine ⟨⟨Nat.zero_le _, Nat.zero_le _⟩, CDV_length (by omega) ⟨0, 0, ⟨Nat.zero_le _, Nat.zero_le _⟩, CDV_two R G4 (fun e G5 => ?_) (fun e a' => H.f e a')⟩⟩
    have H := H.on e
    have Ln := dvLn_b (y := y) (m := mo)
    have db := (dvPr_b (tp := tp) (sz := sz) (lo := 1) (hi := dvLn y mo) (at_ := a4) G4.1).2.2 e
    exact ⟨⟨Nat.zero_le _, Nat.zero_le _⟩, CDV_of (by omega) mb (by omega) ⟨Nat.zero_le _, Nat.zero_le _, H.1 rfl G5⟩⟩
theorem CDV_zone (R : dvR kd an ai mX67_tape mX67_size mX67_wrong sa p qt tp sz) (h : dvG sz a) (H : dvGo post px mX67_at mX67_place p sz (dvZn tp sz a)) : wpDV_X67_zone MC MS post px kd an ai mX67_tape mX67_size (va_up mX67_at p a) mX67_wrong mX67_place sa p := by
  have z1 : ∀ sg : Int, (sg = 1 ∨ sg = -1) → dvG sz (a + 1) → dvGo post px mX67_at mX67_place p sz (dvZ1 tp sz sg (a + 1)) → wDV_X67_zone_48 MC MS post px p sg kd an ai mX67_tape mX67_size (va_up mX67_at p (a + 1)) mX67_wrong mX67_place sa 0 0 := fun sg es G1 H => by
    unfold dvZ1 at H
    unfold wDV_X67_zone_48
    generalize a + 1 = a1 at *
    refine ⟨0, 0, ⟨Nat.zero_le _, Nat.zero_le _⟩, CDV_two R G1 (fun e G2 => ?_) (fun e a' => H.f e a')⟩
    have H := H.on e
    have hb := (dvPr_b (tp := tp) (sz := sz) (lo := 0) (hi := 14) (at_ := a1) G1.1).2.2 e
    generalize (dvPr tp sz 0 14 a1).2.1 = a2 at *
    generalize (dvPr tp sz 0 14 a1).2.2 = ho at *
    refine ⟨0, 0, ⟨Nat.zero_le _, Nat.zero_le _⟩, CDV_wr R G2 (by decide) H (fun G3 H => ?_)⟩
    generalize a2 + 1 = a3 at *
    have fin : ∀ hi : Int, hi = (if ho = 14 then 0 else 59) → wpDV_X67_two 0 0 (fun (r_47 : Int) (mX67_at_48 : Nat → Int) (mX67_place_49 : Nat → Int) => (zR (sg * ((60 * ho) + r_47)) ∧ (0 ≤ MC ∧ 0 ≤ MS ∧ post (sg * ((60 * ho) + r_47)) mX67_at_48 mX67_place_49))) (fun (k_52 : Nat) (mX67_at_53 : Nat → Int) (mX67_place_54 : Nat → Int) => (px k_52 mX67_at_53 mX67_place_54)) kd an ai mX67_tape mX67_size (va_up mX67_at p a3) mX67_wrong mX67_place sa p 0 hi := fun hi ehi => by
      rw [← ehi] at H
      have hib : hi ≤ 59 := by rw [ehi]; split <;> decide
      refine CDV_two R G3 (fun e G4 => ?_) (fun e a' => H.f e a')
      have H := H.on e
      have mb := (dvPr_b (tp := tp) (sz := sz) (lo := 0) (hi := hi) (at_ := a3) G3.1).2.2 e
      refine ⟨?_, Nat.zero_le _, Nat.zero_le _, H.1 rfl G4⟩
      rcases es with q | q
      · rw [q]; omega
      · rw [q]; omega
    exact ⟨fun q => ⟨0, 0, ⟨Nat.zero_le _, Nat.zero_le _⟩, fin 0 (by rw [if_pos q])⟩, fun q => ⟨0, 0, ⟨Nat.zero_le _, Nat.zero_le _⟩, fin 59 (by rw [if_neg q])⟩⟩
  unfold dvZn at H
  unfold wpDV_X67_zone
  have nl := Nat.zero_le
  refine ⟨⟨nl _, nl _⟩, CDV_takes R h.a (fun e => ⟨fun q => absurd q (by decide), fun _ => ⟨nl _, nl _, ?_⟩⟩) (fun e => ⟨fun _ => ⟨⟨nl _, nl _⟩, CDV_here R h.a ⟨fun c => ⟨⟨nl _, nl _⟩, CDV_takes R h.a (fun e2 => ⟨fun q => absurd q (by decide), fun _ => ?_⟩) (fun e2 => absurd c e2)⟩, fun c => ⟨⟨nl _, nl _⟩, CDV_takes R h.a (fun e2 => absurd e2 c) (fun e2 => ⟨fun _ => ⟨⟨nl _, nl _⟩, CDV_takes R h.a (fun e3 => ⟨fun q => absurd q (by decide), fun _ => ?_⟩) (fun e3 => ⟨fun _ => ⟨nl _, nl _, ?_⟩, fun q => absurd rfl q⟩)⟩, fun q => absurd rfl q⟩)⟩⟩⟩, fun q => absurd rfl q⟩)⟩
  · rw [if_pos e] at H
    exact H.1 rfl (dvG_w h e (by decide))
  · rw [if_neg e, if_pos c] at H
    exact z1 (-1) (Or.inr rfl) (dvG_w h c (by decide)) H
  · rw [if_neg e, if_neg c, if_pos e3] at H
    exact z1 1 (Or.inl rfl) (dvG_w h e3 (by decide)) H
  · rw [if_neg e, if_neg c, if_neg e3] at H
    exact H.1 rfl h
theorem CDV_fraction (R : dvR kd an ai mX67_tape mX67_size mX67_wrong sa p qt tp sz) (h : dvG sz a) (H : dvGo post px mX67_at mX67_place p sz (dvTh tp sz a)) : wpDV_X67_fraction MC MS post px kd an ai mX67_tape mX67_size (va_up mX67_at p a) mX67_wrong mX67_place sa p := by
  have G1 := dvG_dg (tp := tp) (least := 1) (most := 3) h
  have Da := (dvDg_a (tp := tp) (least := 1) (most := 3) h.a).2
  have B := dvV_3 (tp := tp) (sz := sz) (least := 1) (most := 3) (at_ := a) (Nat.le_refl 3)
  have B0 := dvDg_b (tp := tp) (sz := sz) (least := 1) (most := 3) (at_ := a) (by decide)
  unfold dvTh at H
  unfold wpDV_X67_fraction
  refine fun x1 e1 => ⟨0, 0, ⟨Nat.zero_le _, Nat.zero_le _⟩, CDV_digits (least := 1) (most := 3) R h.a (by decide) (fun e => ?_) (fun e a' => H.f e a')⟩
  rw [va_up_self] at e1
  have H := H.on e
  generalize (dvDg tp sz 1 3 a).2.1 = a1 at *
  generalize (dvDg tp sz 1 3 a).2.2 = v at *
  rw [va_up_self, e1]
  refine ⟨by omega, fun x4 e4 => ?_⟩
  refine wl2 (fun f y k => wDV_X67_fraction_20 MC MS _ f y k) (fun y k => (a1 - a ≤ k ∧ k ≤ 3) ∧ y * 10 ^ (3 - k.toNat) = v * 10 ^ (3 - (a1 - a).toNat) ∧ 0 ≤ y ∧ y < 1000 * 10 ^ (k.toNat - (a1 - a).toNat)) (fun _ k => (3 - k).toNat) ?_ v x4 ⟨by omega, by rw [e4], B0.1, by rw [e4, Nat.sub_self]; omega⟩
  rintro y k ⟨hk, ey, y0, y1⟩ f ih
  rw [wDV_X67_fraction_20]
  have kc : k = 0 ∨ k = 1 ∨ k = 2 ∨ k = 3 := by omega
  have ac : a1 - a = 0 ∨ a1 - a = 1 ∨ a1 - a = 2 ∨ a1 - a = 3 := by omega
  refine ⟨fun q => ⟨Nat.zero_le _, Nat.zero_le _, ?_⟩, fun q => ⟨?_, fun y2 e2 => ⟨by omega, fun k2 e3 => ?_⟩⟩⟩
  · have k3 : k = 3 := by omega
    rw [k3, show 3 - (3 : Int).toNat = 0 from rfl, Int.pow_zero, Int.mul_one] at ey
    rw [ey]; exact H.1 rfl G1
  · have pb : (10 : Int) ^ (k.toNat - (a1 - a).toNat) ≤ 1000 := by
      have pw : ∀ n : Nat, n ≤ 3 → (10 : Int) ^ n ≤ 1000 := by decide
      exact pw _ (by omega)
    omega
  · subst e2 e3
    refine ih _ _ ⟨by omega, ?_, by omega, ?_⟩ (by omega)
    · rw [← ey, show 3 - k.toNat = (3 - (k + 1).toNat) + 1 by omega, Int.pow_succ, Int.mul_assoc, Int.mul_comm 10]
    · rw [show (k + 1).toNat - (a1 - a).toNat = (k.toNat - (a1 - a).toNat) + 1 by omega, Int.pow_succ]
      omega
end

/-! DatatypeValues, the component: dates and instants are read -/
/-- how the reading of a time ends -/
def dvGT (post : Option Nat → (Nat → Nat) → (Nat → Int) → (Nat → Int) → (Nat → Int) → (Nat → Int) → (Nat → Int) → Prop) (px : Nat → (Nat → Nat) → (Nat → Int) → (Nat → Int) → (Nat → Int) → (Nat → Int) → (Nat → Int) → Prop) (kd : Nat → Nat) (m pl K Mi Zo : Nat → Int) (p : Nat) (sz kind : Int) (r : Int × Int × Int × Int) : Prop :=
  (r.1 = -1 → dvG sz r.2.1 → ∀ q, kd q = 0 → post (some q) (va_up kd q 6) (va_up m p r.2.1) pl (va_up K q kind) (va_up Mi q r.2.2.1) (va_up Zo q r.2.2.2)) ∧
  (0 ≤ r.1 → ∀ a, px 2 kd (va_up m p a) (va_up pl p r.1) K Mi Zo ∧ ∀ q, kd q = 0 → px 2 (va_up kd q 6) (va_up m p a) (va_up pl p r.1) (va_up K q 0) (va_up Mi q 0) (va_up Zo q 0))
section
variable {kd : Nat → Nat} {an : Nat → Nat} {ai : Nat → Int → Int} {al : Nat → Int → Int} {ar : Nat → Int → Option Nat} {mX6_tape : Nat → Option Nat} {mX6_size : Nat → Int} {mX6_values : Nat → Option Nat} {mX6_count : Nat → Int} {mX6_writer : Nat → Option Nat} {mX7_bytes : Nat → Option Nat} {mX7_size : Nat → Int} {mX67_tape : Nat → Option Nat} {mX67_size : Nat → Int} {mX67_at : Nat → Int} {mX67_wrong : Nat → Option Nat} {mX67_place : Nat → Int} {mX68_kind : Nat → Int} {mX69_upper : Nat → Int} {mX69_lower : Nat → Int} {mX70_is : Nat → Int} {mX72_millis : Nat → Int} {mX72_zone : Nat → Int} {mX73_months : Nat → Int} {mX73_millis : Nat → Int} {mX74_bytes : Nat → Option Nat} {sa : Nat → Nat} {so : kSo} {p qt q : Nat} {tp : Int → Int} {sz a b x w lo hi least sg kind : Int} {most v : Nat} {MC MS kc ks : Nat} {post : Option Nat → (Nat → Nat) → (Nat → Int) → (Nat → Int) → (Nat → Int) → (Nat → Int) → (Nat → Int) → Prop} {px : Nat → (Nat → Nat) → (Nat → Int) → (Nat → Int) → (Nat → Int) → (Nat → Int) → (Nat → Int) → Prop} {r : Int × Int × Int} {k : Int → Int → Int × Int × Int × Int} {m pl K Mi Zo : Nat → Int}
theorem dvGT.f (H : dvGT post px kd m pl K Mi Zo p sz kind (dvB4 r k)) (h : 0 ≤ r.1) : ∀ a, px 2 kd (va_up m p a) (va_up pl p r.1) K Mi Zo := by rw [dvB4_f h] at H; exact fun a => (H.2 h a).1
theorem dvGT.on (H : dvGT post px kd m pl K Mi Zo p sz kind (dvB4 r k)) (h : r.1 = -1) : dvGT post px kd m pl K Mi Zo p sz kind (k r.2.1 r.2.2) := by rw [dvB4_k h] at H; exact H
theorem dvR.up (R : dvR kd an ai mX67_tape mX67_size mX67_wrong sa p qt tp sz) (hq : kd q = 0) : dvR (va_up kd q v) an ai mX67_tape mX67_size mX67_wrong sa p qt tp sz := by
  obtain ⟨⟨r1, r2, r3, r4⟩, r5, r6, r7⟩ := R
  have n1 : qt ≠ q := fun e => by rw [e, hq] at r2; exact absurd r2 (by decide)
  have n2 : p ≠ q := fun e => by rw [e, hq] at r7; exact absurd r7 (by decide)
  refine ⟨⟨r1, ?_, r3, r4⟩, r5, r6, ?_⟩
  · rw [show va_up kd q v qt = kd qt from if_neg n1]; exact r2
  · rw [show va_up kd q v p = kd p from if_neg n2]; exact r7
theorem CDV_wr4 {Post : (Nat → Int) → (Nat → Int) → Prop} (R : dvR kd an ai mX67_tape mX67_size mX67_wrong sa p qt tp sz) (h : dvG sz a) (hb : 0 ≤ b) (H : dvGT post px kd mX67_at mX67_place K Mi Zo p sz kind (dvB4 (dvWr tp sz b a) k)) (h1 : dvG sz (a + 1) → dvGT post px kd mX67_at mX67_place K Mi Zo p sz kind (k (a + 1) 0) → Post (va_up mX67_at p (a + 1)) mX67_place) : wpDV_X67_want MC MS Post (fun (k_7 : Nat) (mX67_at_8 : Nat → Int) (mX67_place_9 : Nat → Int) => px k_7 kd mX67_at_8 mX67_place_9 K Mi Zo) kd an ai mX67_tape mX67_size (va_up mX67_at p a) mX67_wrong mX67_place sa p b := by
  have W := dvWt_1 (tp := tp) (sz := sz) (b := b) (at_ := a) h.1
  refine CDV_want R h.a (fun e => h1 (dvG_w h e hb) (H.on (r := dvWr tp sz b a) (by show dvWt tp sz b a = -1; omega))) (fun e => ?_)
  have e2 : dvWt tp sz b a = a := by omega
  have := H.f (r := dvWr tp sz b a) (by show 0 ≤ dvWt tp sz b a; have := h.1; omega) a
  rw [show (dvWr tp sz b a).1 = a from e2] at this
  exact this
theorem CDV_date (hM : 1 ≤ MC ∧ 3 ≤ MS) (R : dvR kd an ai mX67_tape mX67_size mX67_wrong sa p qt tp sz) (h : dvG sz a) (H : dvGT post px kd mX67_at mX67_place mX68_kind mX72_millis mX72_zone p sz 4 (dvB4 (dvDy tp sz a) fun a day => dvIz tp sz (86400000 * day) a)) : wpDV_X67_date MC MS post px kd an ai mX67_tape mX67_size (va_up mX67_at p a) mX67_wrong mX67_place mX68_kind mX72_millis mX72_zone sa p := by
  unfold wpDV_X67_date
  refine ⟨0, 0, ⟨Nat.zero_le _, Nat.zero_le _⟩, CDV_day R h ⟨fun e G1 => ⟨by omega, fun q hq K eK Mi eMi Zo eZo => ?_⟩, fun e a' => H.f e a'⟩⟩
  have H := H.on e
  have dr := dvDy_r (tp := tp) (sz := sz) h.1 e
  generalize (dvDy tp sz a).2.1 = a1 at *
  generalize (dvDy tp sz a).2.2 = day at *
  subst eK eMi eZo
  refine ⟨0, 0, by omega, CDV_zone (R.up hq) G1 ⟨fun e G2 => ⟨by omega, by omega, ?_⟩, fun e a' => ?_⟩⟩
  · unfold wpDV_X72_init wpDV_X68_init
    intro K eK Mi eMi Zo eZo
    rw [va_up_up] at eK eMi eZo
    subst eK eMi eZo
    refine ⟨by omega, by omega, ?_⟩
    unfold dvIz at H
    rw [if_neg (by omega)] at H
    exact H.1 rfl G2 q hq
  · unfold dvIz at H
    rw [if_pos e] at H
    exact (H.2 e a').2 q hq
theorem CDV_i172 {x1 x4 x5 x7 : Int} (hM : kc + 1 ≤ MC ∧ ks + 3 ≤ MS) (R : dvR kd an ai mX67_tape mX67_size mX67_wrong sa p qt tp sz) (h : dvG sz a) (b1 : -1000000000 ≤ x1 ∧ x1 ≤ 1000000000) (b4 : 0 ≤ x4 ∧ x4 < 100) (b5 : 0 ≤ x5 ∧ x5 < 100) (b7 : 0 ≤ x7 ∧ x7 < 100000000) (H : dvGT post px kd mX67_at mX67_place mX68_kind mX72_millis mX72_zone p sz 5 (dvIz tp sz (86400000 * x1 + 3600000 * x4 + 60000 * x5 + x7) a)) : wDV_X67_instant_172 MC MS post px p x1 x4 x5 x7 kd an ai mX67_tape mX67_size (va_up mX67_at p a) mX67_wrong mX67_place mX68_kind mX72_millis mX72_zone sa kc ks := by
  unfold wDV_X67_instant_172
  refine ⟨hM, fun q hq K eK Mi eMi Zo eZo => ?_⟩
  subst eK eMi eZo
  unfold dvIz at H
  refine ⟨0, 0, by omega, CDV_zone (R.up hq) h ⟨fun e G2 => ⟨by omega, by omega, ?_⟩, fun e a' => ?_⟩⟩
  · unfold wpDV_X72_init wpDV_X68_init
    intro K eK Mi eMi Zo eZo
    rw [va_up_up] at eK eMi eZo
    subst eK eMi eZo
    refine ⟨by omega, by omega, ?_⟩
    rw [if_neg (by omega)] at H
    exact H.1 rfl G2 q hq
  · rw [if_pos e] at H
    exact (H.2 e a').2 q hq
/-- the date may not be the last one with the hour 24 -/
theorem dvDy_le (h : 0 ≤ a) (e : (dvDy tp sz a).1 = -1) : (dvDy tp sz a).2.2 ≤ dvOf 9999 12 31 := by
  obtain ⟨yy, mm, dd, hy, hok, edy⟩ := dvDy_b (tp := tp) (sz := sz) h e
  rw [edy]
  have o := dvOf_e (y := yy) (d := dd) hok.1
  have b2 := dvOk_b hok
  have n := dvYs_n (y := yy)
  have v : dvYs 10000 = 3652425 := by decide
  have z : dvOf 9999 12 31 = 2932896 := by decide
  have mo : dvYs (yy + 1) ≤ dvYs 10000 := by
    have := dvYs_m (9999 - yy).toNat yy
    rw [show yy + 1 + ((9999 - yy).toNat : Int) = 10000 by omega] at this
    exact this
  omega
theorem CDV_instant (hM : 1 ≤ MC ∧ 3 ≤ MS) (R : dvR kd an ai mX67_tape mX67_size mX67_wrong sa p qt tp sz) (h : dvG sz a) (H : dvGT post px kd mX67_at mX67_place mX68_kind mX72_millis mX72_zone p sz 5 (dvIn tp sz a)) : wpDV_X67_instant MC MS post px kd an ai mX67_tape mX67_size (va_up mX67_at p a) mX67_wrong mX67_place mX68_kind mX72_millis mX72_zone sa p := by
  have nl := Nat.zero_le
  unfold dvIn at H
  unfold wpDV_X67_instant
  refine ⟨0, 0, ⟨nl _, nl _⟩, CDV_day R h ⟨fun e G0 => ?_, fun e a' => H.f e a'⟩⟩
  have H := H.on e
  have dyb := dvDy_r (tp := tp) (sz := sz) h.1 e
  have dle := dvDy_le (tp := tp) (sz := sz) h.1 e
  generalize (dvDy tp sz a).2.2 = day at *
  generalize (dvDy tp sz a).2.1 = a0 at *
  refine ⟨0, 0, ⟨nl _, nl _⟩, CDV_wr4 R G0 (by decide) H (fun G1 H fr ef => ?_)⟩
  rw [va_up_self] at ef
  rw [← ef] at H G1 ⊢
  refine ⟨0, 0, ⟨nl _, nl _⟩, CDV_two R G1 (fun e G2 => ?_) (fun e a' => H.f e a')⟩
  have H := H.on e
  have hb := (dvPr_b (tp := tp) (sz := sz) (lo := 0) (hi := 24) (at_ := fr) G1.1).2.2 e
  generalize (dvPr tp sz 0 24 fr).2.2 = hh at *
  generalize (dvPr tp sz 0 24 fr).2.1 = a2 at *
  refine ⟨0, 0, ⟨nl _, nl _⟩, CDV_wr4 R G2 (by decide) H (fun G3 H => ?_)⟩
  generalize a2 + 1 = a3 at *
  refine ⟨0, 0, ⟨nl _, nl _⟩, CDV_two R G3 (fun e G4 => ?_) (fun e a' => H.f e a')⟩
  have H := H.on e
  have mb := (dvPr_b (tp := tp) (sz := sz) (lo := 0) (hi := 59) (at_ := a3) G3.1).2.2 e
  generalize (dvPr tp sz 0 59 a3).2.2 = mi at *
  generalize (dvPr tp sz 0 59 a3).2.1 = a4 at *
  have bad : hh = 24 ∧ ¬ mi = 0 → wDV_X67_instant_58 MC MS post px p day fr hh mi (some p) 0 kd an ai mX67_tape mX67_size (va_up mX67_at p a4) mX67_wrong mX67_place mX68_kind mX72_millis mX72_zone sa 0 0 := fun w => by
    rw [if_pos w] at H
    unfold wDV_X67_instant_58
    exact kOn_some ⟨R.2.2.2, 0, 0, ⟨nl _, nl _⟩, CDV_need R (fun q => absurd rfl q) (fun _ => (H.2 G1.1 a4).1)⟩
  have good : ¬ (hh = 24 ∧ ¬ mi = 0) → wDV_X67_instant_58 MC MS post px p day fr hh mi (some p) 1 kd an ai mX67_tape mX67_size (va_up mX67_at p a4) mX67_wrong mX67_place mX68_kind mX72_millis mX72_zone sa 0 0 := fun w => by
    rw [if_neg w] at H
    unfold wDV_X67_instant_58
    refine kOn_some ⟨R.2.2.2, 0, 0, ⟨nl _, nl _⟩, CDV_need R (fun _ => ⟨0, 0, ⟨nl _, nl _⟩, CDV_wr4 R G4 (by decide) H (fun G5 H => ?_)⟩) (fun q => absurd q (by decide))⟩
    generalize a4 + 1 = a5 at *
    have sec : ∀ y2 : Int, y2 = (if mi = 59 then 60 else 59) → wDV_X67_instant_84 MC MS post px p day fr hh mi (some p) 0 y2 kd an ai mX67_tape mX67_size (va_up mX67_at p a5) mX67_wrong mX67_place mX68_kind mX72_millis mX72_zone sa 0 0 := fun y2 ey => by
      have y60 : y2 ≤ 60 := by rw [ey]; split <;> decide
      rw [← ey] at H
      unfold wDV_X67_instant_84
      refine kOn_some ⟨R.2.2.2, 0, 0, ⟨nl _, nl _⟩, CDV_two R G5 (fun e G6 => ?_) (fun e a' => H.f e a')⟩
      have H := H.on e
      have sb := (dvPr_b (tp := tp) (sz := sz) (lo := 0) (hi := y2) (at_ := a5) G5.1).2.2 e
      generalize (dvPr tp sz 0 y2 a5).2.2 = s at *
      generalize (dvPr tp sz 0 y2 a5).2.1 = a6 at *
      have ill : hh = 24 ∧ ¬ (s = 0 ∧ ¬ day = dvOf 9999 12 31) → wDV_X67_instant_122 MC MS post px p day fr hh mi s (some p) 0 kd an ai mX67_tape mX67_size (va_up mX67_at p a6) mX67_wrong mX67_place mX68_kind mX72_millis mX72_zone sa 0 0 := fun w => by
        rw [if_pos w] at H
        unfold wDV_X67_instant_122
        exact kOn_some ⟨R.2.2.2, 0, 0, ⟨nl _, nl _⟩, CDV_need R (fun q => absurd rfl q) (fun _ => (H.2 G1.1 a6).1)⟩
      have well : ¬ (hh = 24 ∧ ¬ (s = 0 ∧ ¬ day = dvOf 9999 12 31)) → wDV_X67_instant_122 MC MS post px p day fr hh mi s (some p) 1 kd an ai mX67_tape mX67_size (va_up mX67_at p a6) mX67_wrong mX67_place mX68_kind mX72_millis mX72_zone sa 0 0 := fun w => by
        rw [if_neg w] at H
        have s59 : (if 59 < s then 59 else s) = (if s = 60 then 59 else s) := by
          by_cases z : s = 60
          · rw [if_pos (by omega), if_pos z]
          · rw [if_neg (by omega), if_neg z]
        have sc : 0 ≤ (if s = 60 then 59 else s) ∧ (if s = 60 then 59 else s) ≤ 59 := by split <;> omega
        unfold wDV_X67_instant_122
        rw [s59]
        generalize (if s = 60 then 59 else s) = t at *
        refine kOn_some ⟨R.2.2.2, 0, 0, ⟨nl _, nl _⟩, CDV_need R (fun _ => ⟨⟨nl _, nl _⟩, by omega, fun x7 e7 => ⟨fun z => ?_, fun z => ⟨fun z2 => ?_, fun z2 => ⟨⟨nl _, nl _⟩, CDV_takes R G6.a (fun e8 => ⟨fun q => absurd q (by decide), fun _ => ⟨0, 0, ⟨nl _, nl _⟩, ?_⟩⟩) (fun e8 => ⟨fun _ => ?_, fun q => absurd rfl q⟩)⟩⟩⟩⟩) (fun q => absurd q (by decide))⟩
        · rw [if_pos (Or.inl (by omega)), ← e7] at H
          exact CDV_i172 (by omega) R G6 dyb (by omega) (by omega) (by omega) H
        · rw [if_pos (Or.inr (Or.inl (by omega))), ← e7] at H
          exact CDV_i172 (by omega) R G6 dyb (by omega) (by omega) (by omega) H
        · rw [if_neg (by omega)] at H
          have G7 := dvG_w G6 e8 (by decide)
          generalize a6 + 1 = a7 at *
          refine CDV_fraction R G7 ⟨fun e G8 => ⟨?_, fun x8 e9 => ?_⟩, fun e a' => H.f e a'⟩
          · have tb := dvTh_b (tp := tp) (sz := sz) G7.1
            omega
          · have H := H.on e
            have tb := dvTh_b (tp := tp) (sz := sz) G7.1
            rw [← e7, ← e9] at H
            exact CDV_i172 (by omega) R G8 dyb (by omega) (by omega) (by omega) H
        · rw [if_pos (Or.inr (Or.inr e8)), ← e7] at H
          exact CDV_i172 (by omega) R G6 dyb (by omega) (by omega) (by omega) H
      refine ⟨fun l => well (by omega), fun l => ⟨fun s0 => ⟨⟨nl _, nl _⟩, CDV_of (by decide) (by decide) (by decide) ⟨fun q => ill ⟨by omega, fun w => w.2 (by omega)⟩, fun q => well (fun w => w.2 ⟨s0, by omega⟩)⟩⟩, fun s0 => ill ⟨by omega, fun w => s0 w.1⟩⟩⟩
    exact ⟨fun z => sec 60 (by rw [if_pos z]), fun z => sec 59 (by rw [if_neg z])⟩
  exact ⟨fun l => good (by omega), fun l => ⟨fun m0 => good (fun w => w.2 m0), fun m0 => bad ⟨by omega, m0⟩⟩⟩
end

/-! DatatypeValues, the component: numbers and truths are read -/
/-- how the reading of a number ends -/
def dvGN (post : Option Nat → (Nat → Nat) → (Nat → Int) → (Nat → Int) → (Nat → Int) → (Nat → Int) → (Nat → Int) → Prop) (px : Nat → (Nat → Nat) → (Nat → Int) → (Nat → Int) → (Nat → Int) → (Nat → Int) → (Nat → Int) → Prop) (kd : Nat → Nat) (m pl K U Lo : Nat → Int) (p : Nat) (sz kind : Int) (r : Int × Int × Int × Int) : Prop :=
  (r.1 = -1 → dvG sz r.2.1 → ∀ q, kd q = 0 → post (some q) (va_up kd q 4) (va_up m p r.2.1) pl (va_up K q kind) (va_up U q r.2.2.1) (va_up Lo q r.2.2.2)) ∧ (0 ≤ r.1 → ∀ a, px 2 kd (va_up m p a) (va_up pl p r.1) K U Lo)
/-- of a truth -/
def dvGB (post : Option Nat → (Nat → Nat) → (Nat → Int) → (Nat → Int) → (Nat → Int) → (Nat → Int) → Prop) (px : Nat → (Nat → Nat) → (Nat → Int) → (Nat → Int) → (Nat → Int) → (Nat → Int) → Prop) (kd : Nat → Nat) (m pl K Is : Nat → Int) (p : Nat) (sz : Int) (r : Int × Int × Int) : Prop :=
  (r.1 = -1 → dvG sz r.2.1 → ∀ q, kd q = 0 → post (some q) (va_up kd q 5) (va_up m p r.2.1) pl (va_up K q 3) (va_up Is q r.2.2)) ∧ (0 ≤ r.1 → ∀ a, px 2 kd (va_up m p a) (va_up pl p r.1) K Is)
theorem dvWd_l {w : Int} : ∀ n : Nat, (dvWd w n).length = n
  | 0 => rfl
  | n + 1 => by show (dvWd w n).length + 1 = n + 1; rw [dvWd_l n]
theorem dvWd_g {w : Int} {j : Nat} : ∀ n : Nat, j < n → (dvWd w n).getD (n - 1 - j) 0 = w / 2 ^ (8 * (j : Int)).toNat % 256
  | 0, h => by omega
  | n + 1, h => by
    by_cases e : j = n
    · subst e
      rw [show j + 1 - 1 - j = 0 by omega]; rfl
    · rw [show n + 1 - 1 - j = (n - 1 - j) + 1 by omega]
      exact dvWd_g n (by omega)
theorem dvGc_1 {x : Int} : dvGc x 1 = 1 := by
  unfold dvGc
  rw [show (1 : Int).natAbs = 1 from rfl, Nat.gcd_one_right]; rfl
section
variable {kd : Nat → Nat} {an : Nat → Nat} {ai : Nat → Int → Int} {al : Nat → Int → Int} {ar : Nat → Int → Option Nat} {mX6_tape : Nat → Option Nat} {mX6_size : Nat → Int} {mX6_values : Nat → Option Nat} {mX6_count : Nat → Int} {mX6_writer : Nat → Option Nat} {mX7_bytes : Nat → Option Nat} {mX7_size : Nat → Int} {mX67_tape : Nat → Option Nat} {mX67_size : Nat → Int} {mX67_at : Nat → Int} {mX67_wrong : Nat → Option Nat} {mX67_place : Nat → Int} {mX68_kind : Nat → Int} {mX69_upper : Nat → Int} {mX69_lower : Nat → Int} {mX70_is : Nat → Int} {mX72_millis : Nat → Int} {mX72_zone : Nat → Int} {mX73_months : Nat → Int} {mX73_millis : Nat → Int} {mX74_bytes : Nat → Option Nat} {sa : Nat → Nat} {so : kSo} {p qt q s : Nat} {tp : Int → Int} {sz a b x y w up lo kind c : Int} {v : Nat} {MC MS kc ks : Nat} {L : List Int} {r : Int × Int × Int} {k : Int → Int → Int × Int × Int × Int} {m pl K U Lo Is : Nat → Int}
theorem CDV_len {post : Int → Prop} (T : txS so s L) (hp : post L.length) : wpDV_J16_length post so s := by
  unfold wpDV_J16_length wpDV_J16_coder
  refine ⟨by decide, ?_⟩
  rw [T.2.2.1, show (2 : Int) ^ (0 : Int).toNat = 1 from rfl, Int.ediv_one]
  exact hp
theorem CDV_chr {post : Int → Prop} {i : Int} (T : txS so s L) (hi : 0 ≤ i ∧ i < L.length) (hp : post (L.getD i.toNat 0)) : wpDV_J16_charAt post sa so s i := by
  obtain ⟨t1, t2, t3, t4⟩ := T
  obtain ⟨e, b⟩ := t4 i.toNat (by omega)
  rw [show ((i.toNat : Nat) : Int) = i by omega] at e
  unfold wpDV_J16_charAt wpDV_J16_isLatin1 wpDV_J17_charAt wpDV_J16_checkIndex wpDV_J15_checkIndex
  refine ⟨fun _ => ⟨fun q => absurd q (by decide), fun _ => kOn_some ⟨t2, fun z => by omega, fun z => ⟨fun z2 => ?_, fun z2 => z2 (by rw [t3]; omega)⟩⟩⟩, fun q => absurd rfl q⟩
  rw [t3, e]
  have e2 : L.getD i.toNat 0 % 256 % 65536 = L.getD i.toNat 0 := by omega
  rw [e2]
  exact ⟨by omega, by omega, by omega, hp⟩
theorem CDV_gc15 {K : Int → Prop} : ∀ (n a b : Nat), b < n → a ≤ 9000000000000000000 ∧ b ≤ 9000000000000000000 → K (Nat.gcd a b : Nat) → wDV_X69_init_15 K n a b
  | 0, _, _, h, _, _ => by omega
  | n + 1, a, b, h, ha, hp => by
    rw [wDV_X69_init_15]
    refine ⟨fun z => ?_, fun z => ⟨z, ?_, fun c ec => ?_⟩⟩
    · have : b = 0 := by omega
      rw [this, Nat.gcd_zero_right] at hp; exact hp
    · have d : Int.tdiv (a : Int) (b : Int) = ((a / b : Nat) : Int) := by rw [Int.tdiv_eq_ediv_of_nonneg (by omega)]; rfl
      have l := Nat.div_le_self a b
      rw [d]
      generalize a / b = q at l
      omega
    · have e : Int.tmod (a : Int) (b : Int) = ((a % b : Nat) : Int) := by rw [Int.tmod_eq_emod_of_nonneg (by omega)]; rfl
      rw [ec, e]
      have l := Nat.mod_lt a (show b > 0 by omega)
      refine CDV_gc15 n b (a % b) (by omega) (by omega) ?_
      rw [Nat.gcd_comm a b, Nat.gcd_rec b a, Nat.gcd_comm (a % b) b] at hp
      exact hp
theorem CDV_ninit {post : (Nat → Int) → (Nat → Int) → (Nat → Int) → Prop} (hx : -9000000000000000000 ≤ up ∧ up ≤ 9000000000000000000) (hl : 0 < lo ∧ lo ≤ 9000000000000000000) (hp : post (va_up K q kind) (va_up U q (Int.tdiv up (dvGc up lo))) (va_up Lo q (Int.tdiv lo (dvGc up lo)))) : wpDV_X69_init post K U Lo q kind up lo := by
  have G := dvGc_b (x := up) hl.1
  have t1 := dv_tl (x := up) G.1
  have t2 := dv_tl (x := lo) G.1
  unfold wpDV_X69_init wpDV_X68_init
  intro K1 eK
  refine ⟨by omega, fun a ea => ⟨lo.natAbs + 1, ?_⟩⟩
  have e1 : a = ((up.natAbs : Nat) : Int) := by rw [ea]; split <;> omega
  have e2 : lo = ((lo.natAbs : Nat) : Int) := by omega
  have := CDV_gc15 (K := fun x6_11 : Int => ¬ x6_11 = 0 ∧ (zL (Int.tdiv up x6_11) ∧ (∀ v_15 : Int, v_15 = Int.tdiv up x6_11 → (∀ mX69_upper_16 : Nat → Int, mX69_upper_16 = va_up U q v_15 → (zL (Int.tdiv lo x6_11) ∧ (∀ v_19 : Int, v_19 = Int.tdiv lo x6_11 → (∀ mX69_lower_20 : Nat → Int, mX69_lower_20 = va_up Lo q v_19 → ((post K1 mX69_upper_16 mX69_lower_20))))))))) (lo.natAbs + 1) up.natAbs lo.natAbs (by omega) (by omega) (by
    show ¬ dvGc up lo = 0 ∧ _
    refine ⟨by omega, ?_, fun v1 ev1 U1 eU => ⟨?_, fun v2 ev2 L1 eL => ?_⟩⟩
    · show zL (Int.tdiv up (dvGc up lo)); omega
    · show zL (Int.tdiv lo (dvGc up lo)); omega
    · rw [eL, ev2, eU, ev1, eK]; exact hp)
  rw [← e1, ← e2] at this
  exact this
section
variable {post : Option Nat → (Nat → Nat) → (Nat → Int) → (Nat → Int) → (Nat → Int) → (Nat → Int) → (Nat → Int) → Prop} {px : Nat → (Nat → Nat) → (Nat → Int) → (Nat → Int) → (Nat → Int) → (Nat → Int) → (Nat → Int) → Prop}
theorem dvGN.f (H : dvGN post px kd m pl K U Lo p sz kind (dvB4 r k)) (h : 0 ≤ r.1) : ∀ a, px 2 kd (va_up m p a) (va_up pl p r.1) K U Lo := by rw [dvB4_f h] at H; exact H.2 h
theorem dvGN.on (H : dvGN post px kd m pl K U Lo p sz kind (dvB4 r k)) (h : r.1 = -1) : dvGN post px kd m pl K U Lo p sz kind (k r.2.1 r.2.2) := by rw [dvB4_k h] at H; exact H
theorem CDV_n70 {fr y1 : Int} (hM : kc + 1 ≤ MC ∧ ks + 3 ≤ MS) (R : dvR kd an ai mX67_tape mX67_size mX67_wrong sa p qt tp sz) (h : dvG sz a) (hfr : 0 ≤ fr) (hx : -1000000000 ≤ x ∧ x ≤ 1000000000) (ey : y1 = 0 ↔ (kind = 1 ∧ ¬ (-128 ≤ x ∧ x ≤ 127)))
    (H : dvGN post px kd mX67_at mX67_place mX68_kind mX69_upper mX69_lower p sz kind (if kind = 1 ∧ ¬ (-128 ≤ x ∧ x ≤ 127) then (fr, 0, 0, 0) else
    if kind = 2 ∧ dvH tp sz a = 47 then dvB4 (dvDg tp sz 1 9 (a + 1)) fun a2 l => if l = 0 then (a + 1, 0, 0, 0) else (-1, a2, Int.tdiv x (dvGc x l), Int.tdiv l (dvGc x l))
    else (-1, a, x, 1))) : wDV_X67_number_70 MC MS post px p kind fr x (some p) y1 kd an ai mX67_tape mX67_size (va_up mX67_at p a) mX67_wrong mX67_place mX68_kind mX69_upper mX69_lower sa kc ks := by
  have nl := Nat.zero_le
  have one : Int.tdiv x (dvGc x 1) = x ∧ Int.tdiv 1 (dvGc x 1) = 1 := by rw [dvGc_1, Int.tdiv_one]; exact ⟨rfl, rfl⟩
  unfold wDV_X67_number_70
  refine kOn_some ⟨R.2.2.2, 0, 0, ⟨by omega, by omega⟩, CDV_need R (fun w => ?_) (fun w => ?_)⟩
  · rw [if_neg (fun q => w (ey.mpr q))] at H
    refine ⟨fun k2 => ⟨⟨by omega, by omega⟩, CDV_takes R h.a (fun e => ⟨fun q => absurd q (by decide), fun _ => ?_⟩) (fun e => ⟨fun _ => ⟨⟨by omega, by omega⟩, ?_⟩, fun q => absurd rfl q⟩)⟩, fun k2 => ⟨⟨by omega, by omega⟩, ?_⟩⟩
    · rw [if_pos ⟨k2, e⟩] at H
      have G1 := dvG_w h e (by decide)
      intro x3 e3
      rw [va_up_self] at e3
      generalize a + 1 = a1 at *
      refine ⟨0, 0, ⟨by omega, by omega⟩, CDV_digits (least := 1) (most := 9) R G1.a (by decide) (fun e4 => ?_) (fun e4 a' => H.f e4 a')⟩
      have H := H.on e4
      have G2 := dvG_dg (tp := tp) (least := 1) (most := 9) G1
      have B := dvDg_b (tp := tp) (sz := sz) (least := 1) (most := 9) (at_ := a1) (by decide)
      generalize (dvDg tp sz 1 9 a1).2.1 = a2 at *
      generalize (dvDg tp sz 1 9 a1).2.2 = l at *
      refine ⟨fun l0 => ⟨0, 0, ⟨by omega, by omega⟩, CDV_need R (fun q => absurd rfl q) (fun _ => ?_)⟩, fun l0 => ⟨0, 0, ⟨by omega, by omega⟩, CDV_need R (fun _ => ⟨⟨by omega, by omega⟩, fun q hq K eK U eU Lo eL => ⟨⟨by omega, by omega⟩, CDV_ninit (by omega) (by omega) ⟨by omega, by omega, ?_⟩⟩⟩) (fun q => absurd q (by decide))⟩⟩
      · rw [if_pos (by omega)] at H
        rw [e3]; exact H.2 G1.1 _
      · rw [if_neg (by omega)] at H
        subst eK eU eL
        rw [va_up_up, va_up_up, va_up_up]
        exact H.1 rfl G2 q hq
    · intro q hq K eK U eU Lo eL
      rw [if_neg (fun z => e z.2)] at H
      refine ⟨⟨by omega, by omega⟩, CDV_ninit (by omega) (by decide) ⟨by omega, by omega, ?_⟩⟩
      subst eK eU eL
      rw [va_up_up, va_up_up, va_up_up, one.1, one.2]
      exact H.1 rfl h q hq
    · intro q hq K eK U eU Lo eL
      rw [if_neg (fun z => k2 z.1)] at H
      refine ⟨⟨by omega, by omega⟩, CDV_ninit (by omega) (by decide) ⟨by omega, by omega, ?_⟩⟩
      subst eK eU eL
      rw [va_up_up, va_up_up, va_up_up, one.1, one.2]
      exact H.1 rfl h q hq
  · rw [if_pos (ey.mp w)] at H
    exact H.2 hfr a
theorem CDV_number (hM : 1 ≤ MC ∧ 3 ≤ MS) (R : dvR kd an ai mX67_tape mX67_size mX67_wrong sa p qt tp sz) (h : dvG sz a) (H : dvGN post px kd mX67_at mX67_place mX68_kind mX69_upper mX69_lower p sz kind (dvNu tp sz kind a)) : wpDV_X67_number MC MS post px kd an ai mX67_tape mX67_size (va_up mX67_at p a) mX67_wrong mX67_place mX68_kind mX69_upper mX69_lower sa p kind := by
  have nl := Nat.zero_le
  unfold dvNu at H
  have n41 : ∀ (a1 x3 x4 : Int), dvG sz a1 → 0 ≤ x3 → (-1000000000 ≤ x4 ∧ x4 ≤ 1000000000) → dvGN post px kd mX67_at mX67_place mX68_kind mX69_upper mX69_lower p sz kind (if kind = 1 ∧ ¬ (-128 ≤ x4 ∧ x4 ≤ 127) then (x3, 0, 0, 0) else
    if kind = 2 ∧ dvH tp sz a1 = 47 then dvB4 (dvDg tp sz 1 9 (a1 + 1)) fun a2 l => if l = 0 then (a1 + 1, 0, 0, 0) else (-1, a2, Int.tdiv x4 (dvGc x4 l), Int.tdiv l (dvGc x4 l))
    else (-1, a1, x4, 1)) → wDV_X67_number_41 MC MS post px p kind x3 x4 kd an ai mX67_tape mX67_size (va_up mX67_at p a1) mX67_wrong mX67_place mX68_kind mX69_upper mX69_lower sa 0 0 := fun a1 x3 x4 G1 h3 h4 H => by
    unfold wDV_X67_number_41
    exact ⟨fun k1 => ⟨fun l => CDV_n70 (by omega) R G1 h3 h4 (by omega) H, fun l => ⟨fun g => CDV_n70 (by omega) R G1 h3 h4 (by omega) H, fun g => CDV_n70 (by omega) R G1 h3 h4 (by omega) H⟩⟩, fun k1 => CDV_n70 (by omega) R G1 h3 h4 (by omega) H⟩
  have n18 : ∀ (x2 : Int), (x2 = 0 ↔ ¬ dvH tp sz a = 45) → dvG sz (dvSg tp sz a) → wDV_X67_number_18 MC MS post px p kind x2 kd an ai mX67_tape mX67_size (va_up mX67_at p (dvSg tp sz a)) mX67_wrong mX67_place mX68_kind mX69_upper mX69_lower sa 0 0 := fun x2 e2 Gs => by
    unfold wDV_X67_number_18
    intro x3 e3
    rw [va_up_self] at e3
    refine ⟨0, 0, ⟨by omega, by omega⟩, CDV_digits (least := 1) (most := 9) R Gs.a (by decide) (fun e4 => ?_) (fun e4 a' => H.f e4 a')⟩
    have H := H.on e4
    have G2 := dvG_dg (tp := tp) (least := 1) (most := 9) Gs
    have B := dvDg_b (tp := tp) (sz := sz) (least := 1) (most := 9) (at_ := dvSg tp sz a) (by decide)
    have on : dvOn tp sz a = if x2 = 0 then (dvDg tp sz 1 9 (dvSg tp sz a)).2.2 else -(dvDg tp sz 1 9 (dvSg tp sz a)).2.2 := by
      unfold dvOn
      by_cases z : x2 = 0
      · rw [if_pos z, if_neg (e2.mp z)]
      · rw [if_neg z, if_pos (Classical.byContradiction (fun w => z (e2.mpr w)))]
    rw [on] at H
    subst e3
    refine ⟨fun z => ?_, fun z => ⟨by omega, fun x4 e5 => ?_⟩⟩
    · rw [if_pos z] at H
      exact n41 _ _ _ G2 Gs.1 (by omega) H
    · rw [if_neg z, ← e5] at H
      exact n41 _ _ _ G2 Gs.1 (by omega) H
  unfold wpDV_X67_number
  refine ⟨⟨nl _, nl _⟩, CDV_takes R h.a (fun e => ⟨fun q => absurd q (by decide), fun _ => ?_⟩) (fun e => ⟨fun _ => ⟨⟨nl _, nl _⟩, CDV_takes R h.a (fun e2 => ?_) (fun e2 => ?_)⟩, fun q => absurd rfl q⟩)⟩
  · have s : dvSg tp sz a = a + 1 := if_pos (Or.inl e)
    have := n18 1 (by omega) (by rw [s]; exact dvG_w h e (by decide))
    rw [s] at this; exact this
  · have s : dvSg tp sz a = a + 1 := if_pos (Or.inr e2)
    have := n18 0 (by omega) (by rw [s]; exact dvG_w h e2 (by decide))
    rw [s] at this; exact this
  · have s : dvSg tp sz a = a := if_neg (by omega)
    have := n18 0 (by omega) (by rw [s]; exact h)
    rw [s] at this; exact this
end
end

/-! DatatypeValues, the component: truths, letters among three -/
section
variable {kd : Nat → Nat} {an : Nat → Nat} {ai : Nat → Int → Int} {al : Nat → Int → Int} {ar : Nat → Int → Option Nat} {mX6_tape : Nat → Option Nat} {mX6_size : Nat → Int} {mX6_values : Nat → Option Nat} {mX6_count : Nat → Int} {mX6_writer : Nat → Option Nat} {mX7_bytes : Nat → Option Nat} {mX7_size : Nat → Int} {mX67_tape : Nat → Option Nat} {mX67_size : Nat → Int} {mX67_at : Nat → Int} {mX67_wrong : Nat → Option Nat} {mX67_place : Nat → Int} {mX68_kind : Nat → Int} {mX69_upper : Nat → Int} {mX69_lower : Nat → Int} {mX70_is : Nat → Int} {mX72_millis : Nat → Int} {mX72_zone : Nat → Int} {mX73_months : Nat → Int} {mX73_millis : Nat → Int} {mX74_bytes : Nat → Option Nat} {sa : Nat → Nat} {so : kSo} {p qt q s : Nat} {tp : Int → Int} {sz a b x y w c : Int} {v : Nat} {MC MS kc ks : Nat} {m pl K Is : Nat → Int}
theorem CDV_t65 {post : Option Nat → (Nat → Nat) → (Nat → Int) → (Nat → Int) → (Nat → Int) → (Nat → Int) → Prop} {px : Nat → (Nat → Nat) → (Nat → Int) → (Nat → Int) → (Nat → Int) → (Nat → Int) → Prop} {K88 : (Nat → Int) → (Nat → Int) → Nat → Nat → Prop} {n : Nat} (hn : n ≤ 8) (hk : kc ≤ MC ∧ ks ≤ MS) (R : dvR kd an ai mX67_tape mX67_size mX67_wrong sa p qt tp sz) (T : txS so s (dvWd w n)) : ∀ (j : Nat) (a : Int), j ≤ n → dvG sz a → ((dvWk tp sz w j a).1 = -1 → dvG sz (dvWk tp sz w j a).2 → K88 (va_up mX67_at p (dvWk tp sz w j a).2) mX67_place kc ks) → (0 ≤ (dvWk tp sz w j a).1 → ∀ a', px 2 kd (va_up mX67_at p a') (va_up mX67_place p (dvWk tp sz w j a).1) mX68_kind mX70_is) →
    wDV_X67_truth_65 MC MS post px K88 p (some s) kd an ai mX67_tape mX67_size mX67_wrong mX68_kind mX70_is sa so (j + 1) ((n : Int) - j) (va_up mX67_at p a) mX67_place kc ks
  | 0, a, hj, G, ok, bad => by
    rw [wDV_X67_truth_65]
    refine kOn_some ⟨T.1, hk, CDV_len T ⟨fun _ => ?_, fun z => absurd (by rw [dvWd_l]; omega) z⟩⟩
    exact ok rfl G
  | j + 1, a, hj, G, ok, bad => by
    rw [wDV_X67_truth_65]
    rw [dvWk] at ok bad
    have cb : 0 ≤ w / 2 ^ (8 * (j : Int)).toNat % 256 := by omega
    have eg := dvWd_g (w := w) (j := j) n (by omega)
    refine kOn_some ⟨T.1, hk, CDV_len T ⟨fun z => by rw [dvWd_l] at z; omega, fun z => ⟨hk, CDV_chr T (by rw [dvWd_l]; omega) ⟨0, 0, hk, ?_⟩⟩⟩⟩
    rw [show ((n : Int) - ((j + 1 : Nat) : Int)).toNat = n - 1 - j by omega, eg]
    refine CDV_want R G.a (fun e => ⟨by omega, fun x3 e3 => ?_⟩) (fun e => ?_)
    · rw [if_pos e] at ok bad
      rw [e3, show (n : Int) - ((j + 1 : Nat) : Int) + 1 = (n : Int) - j by omega]
      exact CDV_t65 hn hk R T j (a + 1) (by omega) (dvG_w G e cb) ok bad
    · rw [if_neg e] at bad
      exact bad G.1 a
theorem CDV_truth {post : Option Nat → (Nat → Nat) → (Nat → Int) → (Nat → Int) → (Nat → Int) → (Nat → Int) → Prop} {px : Nat → (Nat → Nat) → (Nat → Int) → (Nat → Int) → (Nat → Int) → (Nat → Int) → Prop} (hM : 1 ≤ MC ∧ 2 ≤ MS) (R : dvR kd an ai mX67_tape mX67_size mX67_wrong sa p qt tp sz) (h : dvG sz a) (T : txS so (sa 257) (dvWd 1953658213 4)) (F : txS so (sa 258) (dvWd 439721161573 5)) (H : dvGB post px kd mX67_at mX67_place mX68_kind mX70_is p sz (dvTr tp sz a)) : wpDV_X67_truth MC MS post px kd an ai mX67_tape mX67_size (va_up mX67_at p a) mX67_wrong mX67_place mX68_kind mX70_is sa so p := by
  have nl := Nat.zero_le
  unfold dvTr at H
  have fin : ∀ (at2 K1 I1 : Nat → Int) (q : Nat) (x : Int), (x = 0 ∨ x = 1) → K1 = va_up mX68_kind q 0 → I1 = va_up mX70_is q 0 → post (some q) (va_up kd q 5) at2 mX67_place (va_up mX68_kind q 3) (va_up mX70_is q x) → wpDV_X70_init (fun (k2 : Nat → Int) (i2 : Nat → Int) => ((0 + 1) ≤ MC ∧ (0 + 2) ≤ MS ∧ post (some q) (va_up kd q 5) at2 mX67_place k2 i2)) K1 I1 q x := fun at2 K1 I1 q x hx eK eI hp => by
    subst eK eI
    unfold wpDV_X70_init wpDV_X68_init
    intro K2 eK2
    refine ⟨hx, fun I2 eI2 => ⟨by omega, by omega, ?_⟩⟩
    rw [eK2, eI2, va_up_up, va_up_up]; exact hp
  unfold wpDV_X67_truth
  refine ⟨⟨nl _, nl _⟩, CDV_takes R h.a (fun e1 => ⟨fun q => absurd q (by decide), fun _ => ⟨by omega, fun q hq K1 eK I1 eI => ⟨by omega, fin _ _ _ _ _ (Or.inr rfl) eK eI ?_⟩⟩⟩) (fun e1 => ⟨fun _ => ⟨⟨nl _, nl _⟩, CDV_takes R h.a (fun e2 => ⟨fun q => absurd q (by decide), fun _ => ⟨by omega, fun q hq K1 eK I1 eI => ⟨by omega, fin _ _ _ _ _ (Or.inl rfl) eK eI ?_⟩⟩⟩) (fun e2 => ⟨fun _ => ⟨⟨nl _, nl _⟩, CDV_here R h.a ⟨fun e3 => ⟨fun q => absurd q (by decide), fun _ => ⟨5, ?_⟩⟩, fun e3 => ⟨fun _ => ⟨6, ?_⟩, fun q => absurd rfl q⟩⟩⟩, fun q => absurd rfl q⟩)⟩, fun q => absurd rfl q⟩)⟩
  · rw [if_pos e1] at H
    exact H.1 rfl (dvG_w h e1 (by decide)) q hq
  · rw [if_neg e1, if_pos e2] at H
    exact H.1 rfl (dvG_w h e2 (by decide)) q hq
  · rw [if_neg e1, if_neg e2, if_pos e3] at H
    exact CDV_t65 (n := 4) (by decide) ⟨nl _, nl _⟩ R T 4 a (Nat.le_refl 4) h (fun e4 G => ⟨by omega, fun q hq K1 eK I1 eI => ⟨by omega, fin _ _ _ _ _ (Or.inr rfl) eK eI (H.1 e4 G q hq)⟩⟩) (fun e4 a' => H.2 e4 a')
  · rw [if_neg e1, if_neg e2, if_neg e3] at H
    exact CDV_t65 (n := 5) (by decide) ⟨nl _, nl _⟩ R F 5 a (Nat.le_refl 5) h (fun e4 G => ⟨by omega, fun q hq K1 eK I1 eI => ⟨by omega, fin _ _ _ _ _ (Or.inl rfl) eK eI (H.1 e4 G q hq)⟩⟩) (fun e4 a' => H.2 e4 a')
/-! the letters of spans -/
theorem CDV_s50 {K76 : Int → Prop} (hk : kc ≤ MC ∧ ks ≤ MS) (R : dvR kd an ai mX67_tape mX67_size mX67_wrong sa p qt tp sz) (h : dvA sz a) (T : txS so (sa 259) (dvWd 5852484 3)) : ∀ (n : Nat) (k : Int), 0 ≤ k → k ≤ 3 → 3 < k + n → K76 (dvAm tp sz 5852484 a n k) → wDV_X67_span_50 MC MS K76 p kd an ai mX67_tape mX67_size (va_up mX67_at p a) sa so kc ks n k
  | 0, k, h0, h1, h2, hp => by omega
  | n + 1, k, h0, h1, h2, hp => by
    rw [wDV_X67_span_50]
    rw [dvAm] at hp
    refine ⟨fun z => by rw [if_pos z] at hp; exact hp, fun z => ⟨hk, CDV_here R h ⟨T.1, hk, CDV_chr T (by rw [dvWd_l]; omega) ?_⟩⟩⟩
    have eg := dvWd_g (w := 5852484) (j := (2 - k).toNat) 3 (by omega)
    rw [show 3 - 1 - (2 - k).toNat = k.toNat by omega, show (8 * (((2 - k).toNat : Nat) : Int)).toNat = (16 - 8 * k).toNat by omega] at eg
    rw [eg]
    rw [if_neg z] at hp
    refine ⟨fun e => ?_, fun e => ⟨by omega, fun k2 e2 => ?_⟩⟩
    · rw [if_pos e] at hp; exact hp
    · rw [if_neg e] at hp
      subst e2
      exact CDV_s50 hk R h T n (k + 1) (by omega) (by omega) (by omega) hp
theorem CDV_c57 {K83 : Int → Prop} (hk : kc ≤ MC ∧ ks ≤ MS) (R : dvR kd an ai mX67_tape mX67_size mX67_wrong sa p qt tp sz) (h : dvA sz a) (T : txS so (sa 260) (dvWd 4738387 3)) : ∀ (n : Nat) (k : Int), 0 ≤ k → k ≤ 3 → 3 < k + n → K83 (dvAm tp sz 4738387 a n k) → wDV_X67_clock_57 MC MS K83 p kd an ai mX67_tape mX67_size (va_up mX67_at p a) sa so kc ks n k
  | 0, k, h0, h1, h2, hp => by omega
  | n + 1, k, h0, h1, h2, hp => by
    rw [wDV_X67_clock_57]
    rw [dvAm] at hp
    refine ⟨fun z => by rw [if_pos z] at hp; exact hp, fun z => ⟨hk, CDV_here R h ⟨T.1, hk, CDV_chr T (by rw [dvWd_l]; omega) ?_⟩⟩⟩
    have eg := dvWd_g (w := 4738387) (j := (2 - k).toNat) 3 (by omega)
    rw [show 3 - 1 - (2 - k).toNat = k.toNat by omega, show (8 * (((2 - k).toNat : Nat) : Int)).toNat = (16 - 8 * k).toNat by omega] at eg
    rw [eg]
    rw [if_neg z] at hp
    refine ⟨fun e => ?_, fun e => ⟨by omega, fun k2 e2 => ?_⟩⟩
    · rw [if_pos e] at hp; exact hp
    · rw [if_neg e] at hp
      subst e2
      exact CDV_c57 hk R h T n (k + 1) (by omega) (by omega) (by omega) hp
end

/-! DatatypeValues, the component: spans are read -/
/-- how the reading of a span ends -/
def dvGS (post : Option Nat → (Nat → Nat) → (Nat → Int) → (Nat → Int) → (Nat → Int) → (Nat → Int) → (Nat → Int) → Prop) (px : Nat → (Nat → Nat) → (Nat → Int) → (Nat → Int) → (Nat → Int) → (Nat → Int) → (Nat → Int) → Prop) (kd : Nat → Nat) (m pl K Mo Mi : Nat → Int) (p : Nat) (sz : Int) (r : Int × Int × Int × Int) : Prop :=
  (r.1 = -1 → dvG sz r.2.1 → ∀ q, kd q = 0 → post (some q) (va_up kd q 7) (va_up m p r.2.1) pl (va_up K q 6) (va_up Mo q r.2.2.1) (va_up Mi q r.2.2.2)) ∧ (0 ≤ r.1 → ∀ a, px 2 kd (va_up m p a) (va_up pl p r.1) K Mo Mi)
/-- a clock behind something -/
theorem dvCk_s {tp : Int → Int} {sz c : Int} : ∀ (n : Nat) (k a mi : Int), 0 ≤ a → (dvCk tp sz n k a (c + mi)).1 = (dvCk tp sz n k a mi).1 ∧ ((dvCk tp sz n k a mi).1 = -1 → (dvCk tp sz n k a (c + mi)).2.1 = (dvCk tp sz n k a mi).2.1 ∧ (dvCk tp sz n k a (c + mi)).2.2 = c + (dvCk tp sz n k a mi).2.2)
  | 0, k, a, mi, _ => ⟨rfl, fun _ => ⟨rfl, rfl⟩⟩
  | n + 1, k, a, mi, ha => by
    rw [dvCk, dvCk]
    have N := (dvN_s (tp := tp) (sz := sz) (at_ := a) (most := 6)).1
    have a1 : (dvDg tp sz 1 6 a).2.1 = a + dvN tp sz a 6 := rfl
    by_cases w1 : 0 ≤ (dvDg tp sz 1 6 a).1
    · rw [if_pos w1, if_pos w1]; exact ⟨rfl, fun e => by have e2 : (dvDg tp sz 1 6 a).1 = -1 := e; omega⟩
    rw [if_neg w1, if_neg w1]
    by_cases w2 : dvH tp sz (dvDg tp sz 1 6 a).2.1 = 46
    · rw [if_pos w2, if_pos w2]
      by_cases w3 : 0 ≤ (dvTh tp sz ((dvDg tp sz 1 6 a).2.1 + 1)).1
      · rw [if_pos w3, if_pos w3]; exact ⟨rfl, fun e => by have e2 : (dvTh tp sz ((dvDg tp sz 1 6 a).2.1 + 1)).1 = -1 := e; omega⟩
      · rw [if_neg w3, if_neg w3]; exact ⟨rfl, fun _ => ⟨rfl, Int.add_assoc _ _ _⟩⟩
    rw [if_neg w2, if_neg w2]
    by_cases w3 : 3 ≤ dvAm tp sz 4738387 (dvDg tp sz 1 6 a).2.1 4 k
    · rw [if_pos w3, if_pos w3]
      exact ⟨rfl, fun e => by have e2 : (dvDg tp sz 1 6 a).2.1 = -1 := e; omega⟩
    rw [if_neg w3, if_neg w3]
    by_cases w4 : dvAm tp sz 4738387 (dvDg tp sz 1 6 a).2.1 4 k + 1 < 3 ∧ dvD tp sz ((dvDg tp sz 1 6 a).2.1 + 1)
    · rw [pif_t w4, pif_t w4, Int.add_assoc]
      exact dvCk_s n _ _ _ (by omega)
    · rw [pif_f w4, pif_f w4]
      exact ⟨rfl, fun _ => ⟨rfl, Int.add_assoc _ _ _⟩⟩
section
variable {kd : Nat → Nat} {an : Nat → Nat} {ai : Nat → Int → Int} {al : Nat → Int → Int} {ar : Nat → Int → Option Nat} {mX6_tape : Nat → Option Nat} {mX6_size : Nat → Int} {mX6_values : Nat → Option Nat} {mX6_count : Nat → Int} {mX6_writer : Nat → Option Nat} {mX7_bytes : Nat → Option Nat} {mX7_size : Nat → Int} {mX67_tape : Nat → Option Nat} {mX67_size : Nat → Int} {mX67_at : Nat → Int} {mX67_wrong : Nat → Option Nat} {mX67_place : Nat → Int} {mX68_kind : Nat → Int} {mX69_upper : Nat → Int} {mX69_lower : Nat → Int} {mX70_is : Nat → Int} {mX72_millis : Nat → Int} {mX72_zone : Nat → Int} {mX73_months : Nat → Int} {mX73_millis : Nat → Int} {mX74_bytes : Nat → Option Nat} {sa : Nat → Nat} {so : kSo} {p qt q s : Nat} {tp : Int → Int} {sz a b x y w c : Int} {v : Nat} {MC MS kc ks : Nat} {m pl K Mo Mi : Nat → Int}
/-- behind a letter of a clock -/
theorem CDV_c148 {K4 : Int → Int → (Nat → Int) → (Nat → Int) → Nat → Nat → Prop} {K167 : Int → (Nat → Int) → (Nat → Int) → Nat → Nat → Prop} {y0 y1 : Int} (hk : kc ≤ MC ∧ ks ≤ MS) (R : dvR kd an ai mX67_tape mX67_size mX67_wrong sa p qt tp sz) (h : dvA sz a) (hx : 0 ≤ x ∧ x ≤ 3) (hy : 0 ≤ y0 + y1 ∧ y0 + y1 < 1000000000000000000) (h1 : x + 1 < 3 ∧ dvD tp sz a → K4 (y0 + y1) (x + 1) (va_up mX67_at p a) mX67_place kc ks) (h0 : ¬ (x + 1 < 3 ∧ dvD tp sz a) → K167 (y0 + y1) (va_up mX67_at p a) mX67_place kc ks) : wDV_X67_clock_148 MC MS K4 K167 p x y0 y1 kd an ai mX67_tape mX67_size (va_up mX67_at p a) mX67_place kc ks := by
  unfold wDV_X67_clock_148
  refine ⟨by omega, fun m em => ⟨by omega, fun k ek => ?_⟩⟩
  rw [em, ek]
  exact ⟨fun z => h0 (fun w => by omega), fun z => ⟨hk, CDV_isDigitB R h (fun D => h1 ⟨by omega, D⟩) (fun D => h0 (fun w => D w.2))⟩⟩
theorem CDV_c4 {post : Int → (Nat → Int) → (Nat → Int) → Prop} {px : Nat → (Nat → Int) → (Nat → Int) → Prop} {K22 : Int → Int → (Nat → Int) → (Nat → Int) → Nat → Nat → Prop} {K167 : Int → (Nat → Int) → (Nat → Int) → Nat → Nat → Prop} (hk : kc ≤ MC ∧ ks ≤ MS) (R : dvR kd an ai mX67_tape mX67_size mX67_wrong sa p qt tp sz) (T : txS so (sa 260) (dvWd 4738387 3))
    (hK : ∀ (a v mi : Int) (X : Int × Int × Int), dvG sz (a + 1) → (0 ≤ v ∧ v < 1000000) → (0 ≤ mi ∧ mi < 50000000000000) → X = (if 0 ≤ (dvTh tp sz (a + 1)).1 then ((dvTh tp sz (a + 1)).1, 0, 0) else (dvWt tp sz 83 (dvTh tp sz (a + 1)).2.1, (dvTh tp sz (a + 1)).2.1 + 1, mi + (1000 * v + (dvTh tp sz (a + 1)).2.2))) → (X.1 = -1 → dvG sz X.2.1 → 0 ≤ X.2.2 ∧ X.2.2 < 100000000000000 → K167 X.2.2 (va_up mX67_at p X.2.1) mX67_place kc ks) → (0 ≤ X.1 → ∀ a', px 2 (va_up mX67_at p a') (va_up mX67_place p X.1)) → K22 mi v (va_up mX67_at p a) mX67_place kc ks) :
    ∀ (n : Nat) (k a mi : Int), 0 ≤ k → k < 3 → 2 < k + n → dvG sz a → (0 ≤ mi ∧ mi ≤ 4000000000000 * k) →
    ((dvCk tp sz n k a mi).1 = -1 → dvG sz (dvCk tp sz n k a mi).2.1 → (0 ≤ (dvCk tp sz n k a mi).2.2 ∧ (dvCk tp sz n k a mi).2.2 < 100000000000000) → K167 (dvCk tp sz n k a mi).2.2 (va_up mX67_at p (dvCk tp sz n k a mi).2.1) mX67_place kc ks) → (0 ≤ (dvCk tp sz n k a mi).1 → ∀ a', px 2 (va_up mX67_at p a') (va_up mX67_place p (dvCk tp sz n k a mi).1)) →
    wDV_X67_clock_4 MC MS post px K22 K167 p kd an ai mX67_tape mX67_size mX67_wrong sa so n mi k (va_up mX67_at p a) mX67_place kc ks
  | 0, k, a, mi, _, h1, h2, _, _, _, _ => by omega
  | n + 1, k, a, mi, k0, k3, kn, G, hmi, ok, bad => by
    rw [wDV_X67_clock_4]
    rw [dvCk] at ok bad
    have V6 := dvV_6 (tp := tp) (sz := sz) (least := 1) (most := 6) (at_ := a) (Nat.le_refl 6)
    have V0 := dvDg_b (tp := tp) (sz := sz) (least := 1) (most := 6) (at_ := a) (by decide)
    have G1 := dvG_dg (tp := tp) (least := 1) (most := 6) G
    refine ⟨0, 0, hk, CDV_digits (least := 1) (most := 6) R G.a (by decide) (fun e1 => ⟨hk, CDV_here R G1.a ⟨fun e2 => ?_, fun e2 => ⟨4, CDV_c57 hk R G1.a T 4 k k0 (by omega) (by omega) ?_⟩⟩⟩) (fun e1 a' => ?_)⟩
    · rw [if_neg (by omega), if_pos e2] at ok bad
      exact hK _ _ _ _ (dvG_w G1 e2 (by decide)) ⟨V0.1, V6⟩ (by omega) rfl ok bad
    · rw [if_neg (by omega), if_neg e2] at ok bad
      have ab := dvAm_b (tp := tp) (sz := sz) (L := 4738387) (at_ := (dvDg tp sz 1 6 a).2.1) 4 k k0 (by omega)
      have am := fun c => dvG_am (tp := tp) (L := 4738387) G1 k0 (by omega) c
      generalize dvAm tp sz 4738387 (dvDg tp sz 1 6 a).2.1 4 k = j at *
      generalize (dvDg tp sz 1 6 a).2.1 = a1 at *
      generalize (dvDg tp sz 1 6 a).2.2 = v at *
      refine ⟨fun z => ?_, fun z => ?_⟩
      · rw [if_pos z] at bad
        unfold wDV_X67_clock_95
        exact kOn_some ⟨R.2.2.2, 0, 0, hk, CDV_need R (fun q => absurd rfl q) (fun _ => by rw [va_up_self]; exact bad G1.1 a1)⟩
      · rw [if_neg z] at ok bad
        have G2 := am (by omega)
        have rest : ∀ y1 : Int, y1 = (if j = 0 then 3600000 * v else if j = 1 then 60000 * v else 1000 * v) → (0 ≤ y1 ∧ y1 < 4000000000000) → wDV_X67_clock_148 MC MS (wDV_X67_clock_4 MC MS post px K22 K167 p kd an ai mX67_tape mX67_size mX67_wrong sa so n) K167 p j mi y1 kd an ai mX67_tape mX67_size (va_up mX67_at p (a1 + 1)) mX67_place kc ks := fun y1 e3 b3 => by
          rw [← e3] at ok bad
          refine CDV_c148 hk R G2.a (by omega) (by omega) (fun w => ?_) (fun w => ?_)
          · rw [pif_t w] at ok bad
            exact CDV_c4 hk R T hK n (j + 1) (a1 + 1) (mi + y1) (by omega) (by omega) (by omega) G2 (by omega) ok bad
          · rw [pif_f w] at ok
            exact ok rfl G2 (by show 0 ≤ mi + y1 ∧ mi + y1 < 100000000000000; omega)
        unfold wDV_X67_clock_95
        refine kOn_some ⟨R.2.2.2, 0, 0, hk, CDV_need R (fun _ => ⟨by rw [va_up_self]; have := G1.2.1; have := G1.1; omega, fun v1 ev m em => ?_⟩) (fun q => absurd q (by decide))⟩
        rw [em, ev, va_up_self, va_up_up]
        exact ⟨fun z0 => ⟨by omega, rest _ (by rw [if_pos z0]) (by omega)⟩, fun z0 => ⟨fun z1 => ⟨by omega, rest _ (by rw [if_neg z0, if_pos z1]) (by omega)⟩, fun z1 => ⟨by omega, rest _ (by rw [if_neg z0, if_neg z1]) (by omega)⟩⟩⟩
    · rw [if_pos e1] at bad
      exact bad e1 a'
theorem CDV_clock {post : Int → (Nat → Int) → (Nat → Int) → Prop} {px : Nat → (Nat → Int) → (Nat → Int) → Prop} (R : dvR kd an ai mX67_tape mX67_size mX67_wrong sa p qt tp sz) (h : dvG sz a) (T : txS so (sa 260) (dvWd 4738387 3)) (ok : (dvCk tp sz 4 0 a 0).1 = -1 → dvG sz (dvCk tp sz 4 0 a 0).2.1 → (0 ≤ (dvCk tp sz 4 0 a 0).2.2 ∧ (dvCk tp sz 4 0 a 0).2.2 < 100000000000000) → post (dvCk tp sz 4 0 a 0).2.2 (va_up mX67_at p (dvCk tp sz 4 0 a 0).2.1) mX67_place) (bad : 0 ≤ (dvCk tp sz 4 0 a 0).1 → ∀ a', px 2 (va_up mX67_at p a') (va_up mX67_place p (dvCk tp sz 4 0 a 0).1)) : wpDV_X67_clock MC MS post px kd an ai mX67_tape mX67_size (va_up mX67_at p a) mX67_wrong mX67_place sa so p := by
  have nl := Nat.zero_le
  unfold wpDV_X67_clock
  refine ⟨4, CDV_c4 ⟨nl _, nl _⟩ R T (fun a v mi X G1 hv hmi eX okX badX => ?_) 4 0 a 0 (by decide) (by decide) (by decide) h (by decide) (fun e G b => ⟨nl _, nl _, ok e G b⟩) bad⟩
  refine ⟨by rw [va_up_self]; have := G1.2.1; have := G1.1; omega, fun v1 ev m em => ⟨0, 0, ⟨nl _, nl _⟩, ?_⟩⟩
  rw [em, ev, va_up_self, va_up_up]
  have tb := dvTh_b (tp := tp) (sz := sz) G1.1
  refine CDV_fraction R G1 ⟨fun e2 G2 => ⟨by omega, fun x1 ex => ⟨0, 0, ⟨nl _, nl _⟩, ?_⟩⟩, fun e2 a' => ?_⟩
  · rw [if_neg (by omega), ← ex] at eX
    rw [eX] at okX badX
    have W := dvWt_1 (tp := tp) (sz := sz) (b := 83) (at_ := (dvTh tp sz (a + 1)).2.1) G2.1
    refine CDV_want R G2.a (fun e3 => ?_) (fun e3 => ?_)
    · exact okX (by show dvWt tp sz 83 _ = -1; omega) (dvG_w G2 e3 (by decide)) (by show 0 ≤ x1 ∧ x1 < 100000000000000; omega)
    · have wa : dvWt tp sz 83 (dvTh tp sz (a + 1)).2.1 = (dvTh tp sz (a + 1)).2.1 := by omega
      rw [wa] at badX
      exact badX G2.1 _
  · rw [if_pos e2] at eX
    rw [eX] at badX
    exact badX e2 a'
section
variable {post : Option Nat → (Nat → Nat) → (Nat → Int) → (Nat → Int) → (Nat → Int) → (Nat → Int) → (Nat → Int) → Prop} {px : Nat → (Nat → Nat) → (Nat → Int) → (Nat → Int) → (Nat → Int) → (Nat → Int) → (Nat → Int) → Prop}
theorem CDV_s24 {K156 : Int → Int → Int → (Nat → Int) → (Nat → Int) → Nat → Nat → Prop} (hk : kc ≤ MC ∧ ks ≤ MS) (R : dvR kd an ai mX67_tape mX67_size mX67_wrong sa p qt tp sz) (T : txS so (sa 259) (dvWd 5852484 3)) : ∀ (n : Nat) (k a mo mi so_ : Int), 0 ≤ k → k ≤ 3 → 3 < k + n → dvG sz a → (0 ≤ mo ∧ mo ≤ 20000000 * k) → (0 ≤ mi ∧ mi ≤ 90000000000000 * k) → (so_ = 0 ∨ so_ = 1) →
    ((dvSp tp sz n k a mo mi so_).1 = -1 → dvG sz (dvSp tp sz n k a mo mi so_).2.1 → dvSb (dvSp tp sz n k a mo mi so_).2.2.1 (dvSp tp sz n k a mo mi so_).2.2.2.1 → ((dvSp tp sz n k a mo mi so_).2.2.2.2 = 0 ∨ (dvSp tp sz n k a mo mi so_).2.2.2.2 = 1) → K156 (dvSp tp sz n k a mo mi so_).2.2.1 (dvSp tp sz n k a mo mi so_).2.2.2.1 (dvSp tp sz n k a mo mi so_).2.2.2.2 (va_up mX67_at p (dvSp tp sz n k a mo mi so_).2.1) mX67_place kc ks) →
    (0 ≤ (dvSp tp sz n k a mo mi so_).1 → ∀ a', px 2 kd (va_up mX67_at p a') (va_up mX67_place p (dvSp tp sz n k a mo mi so_).1) mX68_kind mX73_months mX73_millis) →
    wDV_X67_span_24 MC MS post px K156 p kd an ai mX67_tape mX67_size mX67_wrong mX68_kind mX73_months mX73_millis sa so n mo mi k so_ (va_up mX67_at p a) mX67_place kc ks
  | 0, k, a, mo, mi, so_, _, h1, h2, _, _, _, _, _, _ => by omega
  | n + 1, k, a, mo, mi, so_, k0, k3, kn, G, hmo, hmi, hso, ok, bad => by
    rw [wDV_X67_span_24]
    rw [dvSp] at ok bad
    have sb : dvSb mo mi := by unfold dvSb; omega
    refine ⟨fun z => ?_, fun z => ⟨hk, CDV_isDigitB R G.a (fun D => ?_) (fun D => ?_)⟩⟩
    · rw [pif_f (fun w => by omega)] at ok; exact ok rfl G sb hso
    rotate_left
    · rw [pif_f (fun w => D w.2)] at ok; exact ok rfl G sb hso
    rw [pif_t ⟨by omega, D⟩] at ok bad
    have V6 := dvV_6 (tp := tp) (sz := sz) (least := 1) (most := 6) (at_ := a) (Nat.le_refl 6)
    have V0 := dvDg_b (tp := tp) (sz := sz) (least := 1) (most := 6) (at_ := a) (by decide)
    have G1 := dvG_dg (tp := tp) (least := 1) (most := 6) G
    refine ⟨0, 0, hk, CDV_digits (least := 1) (most := 6) R G.a (by decide) (fun e1 => ⟨4, CDV_s50 hk R G1.a T 4 k k0 k3 (by omega) ?_⟩) (fun e1 a' => by rw [if_pos e1] at bad; exact bad e1 a')⟩
    rw [if_neg (by omega)] at ok bad
    have ab := dvAm_b (tp := tp) (sz := sz) (L := 5852484) (at_ := (dvDg tp sz 1 6 a).2.1) 4 k k0 k3
    have am := fun c => dvG_am (tp := tp) (L := 5852484) G1 k0 k3 c
    generalize dvAm tp sz 5852484 (dvDg tp sz 1 6 a).2.1 4 k = j at *
    generalize (dvDg tp sz 1 6 a).2.1 = a1 at *
    generalize (dvDg tp sz 1 6 a).2.2 = v at *
    refine ⟨fun z => ?_, fun z => ?_⟩
    · rw [if_pos z] at bad
      unfold wDV_X67_span_88
      exact kOn_some ⟨R.2.2.2, 0, 0, hk, CDV_need R (fun q => absurd rfl q) (fun _ => by rw [va_up_self]; exact bad G1.1 a1)⟩
    · rw [if_neg z] at ok bad
      have G2 := am (by omega)
      have ih := CDV_s24 (K156 := K156) hk R T n (j + 1) (a1 + 1) _ _ 1 (by omega) (by omega) (by omega) G2 (by split <;> first | omega | (split <;> omega)) (by split <;> omega) (Or.inr rfl) ok bad
      unfold wDV_X67_span_88
      refine kOn_some ⟨R.2.2.2, 0, 0, hk, CDV_need R (fun _ => ⟨by rw [va_up_self]; have := G1.2.1; have := G1.1; omega, fun v1 ev m em => ?_⟩) (fun q => absurd q (by decide))⟩
      rw [em, ev, va_up_self, va_up_up]
      refine ⟨fun z2 => ⟨by omega, fun x4 e4 => ⟨by omega, fun x6 e6 => ?_⟩⟩, fun z2 => ⟨fun z0 => ⟨by omega, fun x4 e4 => ⟨by omega, fun x6 e6 => ?_⟩⟩, fun z0 => ⟨by omega, fun x4 e4 => ⟨by omega, fun x6 e6 => ?_⟩⟩⟩⟩
      · rw [if_neg (by omega), if_neg (by omega), if_pos z2, Int.add_zero] at ih
        rw [e4, e6]; exact ih
      · rw [if_pos z0, if_neg z2, Int.add_zero] at ih
        rw [e4, e6]; exact ih
      · rw [if_neg z0, if_pos (by omega), if_neg z2, Int.add_zero] at ih
        rw [e4, e6]; exact ih
end
end

/-! DatatypeValues, the component: spans whole; nibbles, letters -/
/-- a step that gives a digit b and goes on by one, or is thrown -/
def dvGd (post : Int → (Nat → Int) → (Nat → Int) → Prop) (px : Nat → (Nat → Int) → (Nat → Int) → Prop) (m pl : Nat → Int) (p : Nat) (a b : Int) : Prop := (0 ≤ b → post b (va_up m p (a + 1)) pl) ∧ (b < 0 → px 2 (va_up m p a) (va_up pl p a))
def dvLL : List Int := (List.range 64).map (fun (k : Nat) => dvLe (k : Int))
theorem dvLL_l : dvLL.length = 64 := by unfold dvLL; rw [List.length_map, List.length_range]
theorem dvLL_g {k : Nat} (h : k < 64) : dvLL.getD k 0 = dvLe (k : Int) := by
  unfold dvLL
  rw [List.getD_eq_getElem?_getD, List.getElem?_map, List.getElem?_range h]; rfl
theorem dvSx_i {b k : Int} (hk : 0 ≤ k ∧ k < 64) (hb : dvLe k = b) : dvSx b = k := by
  unfold dvLe at hb
  unfold dvSx
  split at hb
  · split at hb
    · split at hb
      · split at hb
        · rw [if_neg (by omega), if_neg (by omega), if_neg (by omega), if_pos (by omega)]; omega
        · rw [if_neg (by omega), if_neg (by omega), if_neg (by omega), if_neg (by omega), if_pos (by omega)]; omega
      · rw [if_neg (by omega), if_neg (by omega), if_pos (by omega)]; omega
    · rw [if_neg (by omega), if_pos (by omega)]; omega
  · rw [if_pos (by omega)]; omega
theorem dvSx_n {b : Int} (h : ∀ k, 0 ≤ k → k < 64 → ¬ dvLe k = b) : dvSx b = -1 := by
  unfold dvSx
  unfold dvLe at h
  by_cases c1 : 65 ≤ b ∧ b ≤ 90
  · exact absurd (by rw [if_neg (by omega)]; omega) (h (b - 65) (by omega) (by omega))
  rw [if_neg c1]
  by_cases c2 : 97 ≤ b ∧ b ≤ 122
  · exact absurd (by rw [if_pos (by omega), if_neg (by omega)]; omega) (h (b - 97 + 26) (by omega) (by omega))
  rw [if_neg c2]
  by_cases c3 : 48 ≤ b ∧ b ≤ 57
  · exact absurd (by rw [if_pos (by omega), if_pos (by omega), if_neg (by omega)]; omega) (h (b - 48 + 52) (by omega) (by omega))
  rw [if_neg c3]
  by_cases c4 : b = 43
  · exact absurd (by rw [if_pos (by omega), if_pos (by omega), if_pos (by omega), if_pos rfl]; omega) (h 62 (by omega) (by omega))
  rw [if_neg c4]
  by_cases c5 : b = 47
  · exact absurd (by rw [if_pos (by omega), if_pos (by omega), if_pos (by omega), if_neg (by omega)]; omega) (h 63 (by omega) (by omega))
  rw [if_neg c5]
theorem dv_or32 : ∀ n : Nat, n < 128 → ((97 ≤ n ∧ n ≤ 102 → zor (n : Int) 32 = n) ∧ (65 ≤ n ∧ n ≤ 70 → zor (n : Int) 32 = n + 32) ∧ (¬ (97 ≤ n ∧ n ≤ 102) → ¬ (65 ≤ n ∧ n ≤ 70) → zor (n : Int) 32 < 97 ∨ 102 < zor (n : Int) 32)) := by decide +kernel
section
variable {kd : Nat → Nat} {an : Nat → Nat} {ai : Nat → Int → Int} {al : Nat → Int → Int} {ar : Nat → Int → Option Nat} {mX6_tape : Nat → Option Nat} {mX6_size : Nat → Int} {mX6_values : Nat → Option Nat} {mX6_count : Nat → Int} {mX6_writer : Nat → Option Nat} {mX7_bytes : Nat → Option Nat} {mX7_size : Nat → Int} {mX67_tape : Nat → Option Nat} {mX67_size : Nat → Int} {mX67_at : Nat → Int} {mX67_wrong : Nat → Option Nat} {mX67_place : Nat → Int} {mX68_kind : Nat → Int} {mX69_upper : Nat → Int} {mX69_lower : Nat → Int} {mX70_is : Nat → Int} {mX72_millis : Nat → Int} {mX72_zone : Nat → Int} {mX73_months : Nat → Int} {mX73_millis : Nat → Int} {mX74_bytes : Nat → Option Nat} {sa : Nat → Nat} {so : kSo} {p qt q s : Nat} {tp : Int → Int} {sz a b x y w c mo mi sf : Int} {v : Nat} {MC MS kc ks : Nat}
section
variable {post : Int → (Nat → Int) → (Nat → Int) → Prop} {px : Nat → (Nat → Int) → (Nat → Int) → Prop}
theorem CDV_n55 (R : dvR kd an ai mX67_tape mX67_size mX67_wrong sa p qt tp sz) (h : dvA sz a) (hk : kc ≤ MC ∧ ks ≤ MS) (H : dvGd post px mX67_at mX67_place p a b) : wDV_X67_nibble_55 MC MS post px p b (va_up mX67_at p a) mX67_wrong mX67_place sa kc ks := by
  unfold dvA at h
  unfold wDV_X67_nibble_55
  refine ⟨fun z => ⟨0, 0, hk, CDV_need R (fun q => absurd rfl q) (fun _ => by rw [va_up_self]; exact H.2 z)⟩, fun z => ⟨0, 0, hk, CDV_need R (fun _ => ⟨by rw [va_up_self]; omega, fun v1 ev m em => ⟨hk.1, hk.2, ?_⟩⟩) (fun q => absurd q (by decide))⟩⟩
  rw [em, ev, va_up_self, va_up_up]
  exact H.1 (by omega)
theorem CDV_l20 (R : dvR kd an ai mX67_tape mX67_size mX67_wrong sa p qt tp sz) (h : dvA sz a) (hk : kc ≤ MC ∧ ks ≤ MS) (H : dvGd post px mX67_at mX67_place p a b) : wDV_X67_letter_20 MC MS post px p b (va_up mX67_at p a) mX67_wrong mX67_place sa kc ks := by
  unfold dvA at h
  unfold wDV_X67_letter_20
  refine ⟨fun z => ⟨0, 0, hk, CDV_need R (fun q => absurd rfl q) (fun _ => by rw [va_up_self]; exact H.2 z)⟩, fun z => ⟨0, 0, hk, CDV_need R (fun _ => ⟨by rw [va_up_self]; omega, fun v1 ev m em => ⟨hk.1, hk.2, ?_⟩⟩) (fun q => absurd q (by decide))⟩⟩
  rw [em, ev, va_up_self, va_up_up]
  exact H.1 (by omega)
theorem CDV_nibble (hT : dvT tp) (R : dvR kd an ai mX67_tape mX67_size mX67_wrong sa p qt tp sz) (h : dvA sz a) (H : dvGd post px mX67_at mX67_place p a (dvHv (dvH tp sz a))) : wpDV_X67_nibble MC MS post px kd an ai mX67_tape mX67_size (va_up mX67_at p a) mX67_wrong mX67_place sa p := by
  have nl := Nat.zero_le
  have hb := dvH_b (sz := sz) (at_ := a) hT
  unfold dvHv at H
  unfold wpDV_X67_nibble
  refine ⟨⟨nl _, nl _⟩, CDV_here R h fun x1 e1 => ⟨⟨nl _, nl _⟩, CDV_isDigitB R h (fun D => ⟨⟨nl _, nl _⟩, CDV_here R h ⟨by omega, ?_⟩⟩) (fun D => ⟨⟨nl _, nl _⟩, CDV_here R h ⟨fun z => ?_, fun z => ?_⟩⟩)⟩⟩
  · unfold dvD at D
    rw [if_pos D] at H
    exact CDV_n55 R h ⟨nl _, nl _⟩ H
  · unfold dvD at D
    rw [if_neg D, if_neg (by omega), if_neg (by omega)] at H
    exact CDV_n55 R h ⟨nl _, nl _⟩ H
  · unfold dvD at D
    rw [if_neg D] at H
    have O := dv_or32 (dvH tp sz a).toNat (by omega)
    rw [show (((dvH tp sz a).toNat : Nat) : Int) = dvH tp sz a by omega, ← e1] at O
    have no : ¬ (97 ≤ dvH tp sz a ∧ dvH tp sz a ≤ 102) → ¬ (65 ≤ dvH tp sz a ∧ dvH tp sz a ≤ 70) → dvGd post px mX67_at mX67_place p a (-1) := fun u w => by rw [if_neg u, if_neg w] at H; exact H
    refine ⟨fun l => CDV_n55 R h ⟨nl _, nl _⟩ (no (by omega) (by omega)), fun l => ⟨fun g => CDV_n55 R h ⟨nl _, nl _⟩ (no (by omega) (by omega)), fun g => ⟨by omega, CDV_n55 R h ⟨nl _, nl _⟩ ?_⟩⟩⟩
    by_cases u : 97 ≤ dvH tp sz a ∧ dvH tp sz a ≤ 102
    · rw [if_pos u] at H
      rw [O.1 (by omega)]; exact H
    · have w : 65 ≤ dvH tp sz a ∧ dvH tp sz a ≤ 70 := Classical.byContradiction (fun w => by have := O.2.2 (by omega) (by omega); omega)
      rw [if_neg u, if_pos w] at H
      rw [O.2.1 (by omega), show dvH tp sz a + 32 - 97 + 10 = dvH tp sz a - 65 + 10 by omega]; exact H
theorem CDV_iC {K22 : Int → Prop} {K31 : Prop} {r : Nat} (k2 : so.k r = 2) (kn : so.n r = 64) (kc_ : ∀ i : Nat, i < 64 → zTab (so.c r) (i : Int) = dvLe i) (h1 : 0 ≤ dvSx b → K22 (dvSx b)) (h0 : dvSx b = -1 → K31) : ∀ (n : Nat) (k : Int), 0 ≤ k → k ≤ 64 → 64 < k + n → (∀ i, 0 ≤ i → i < k → ¬ dvLe i = b) → wDV_J17_indexOfChar_7 K22 K31 (some r) 64 b so n k
  | 0, k, u0, u1, u2, u3 => by omega
  | n + 1, k, u0, u1, u2, u3 => by
    rw [wDV_J17_indexOfChar_7]
    have eg := fun (u : k < 64) => kc_ k.toNat (by omega)
    rw [show ((k.toNat : Nat) : Int) = k by omega] at eg
    refine ⟨fun z => h0 (dvSx_n (fun i i0 i1 => u3 i i0 (by omega))), fun z => kOn_some ⟨k2, by rw [kn]; omega, fun e => ?_, fun e => ⟨by omega, fun k2' e2 => ?_⟩⟩⟩
    · rw [eg (by omega)] at e
      have := dvSx_i ⟨u0, by omega⟩ e
      rw [this] at h1; exact h1 u0
    · rw [eg (by omega)] at e
      subst e2
      refine CDV_iC k2 kn kc_ h1 h0 n (k + 1) (by omega) (by omega) (by omega) (fun i i0 i1 => ?_)
      by_cases ei : i = k
      · rw [ei]; exact e
      · exact u3 i i0 (by omega)
theorem CDV_letter (hT : dvT tp) (R : dvR kd an ai mX67_tape mX67_size mX67_wrong sa p qt tp sz) (h : dvA sz a) (T : txS so (sa 261) dvLL) (H : dvGd post px mX67_at mX67_place p a (dvSx (dvH tp sz a))) : wpDV_X67_letter MC MS post px kd an ai mX67_tape mX67_size (va_up mX67_at p a) mX67_wrong mX67_place sa so p := by
  have nl := Nat.zero_le
  have hb := dvH_b (sz := sz) (at_ := a) hT
  unfold wpDV_X67_letter
  refine ⟨⟨nl _, nl _⟩, CDV_here R h ⟨fun z => ?_, fun z => ⟨⟨nl _, nl _⟩, CDV_here R h ⟨T.1, ⟨nl _, nl _⟩, ?_⟩⟩⟩⟩
  · have : dvSx (dvH tp sz a) = -1 := by unfold dvSx; rw [if_neg (by omega), if_neg (by omega), if_neg (by omega), if_neg (by omega), if_neg (by omega)]
    rw [this] at H
    exact CDV_l20 R h ⟨nl _, nl _⟩ H
  · obtain ⟨t1, t2, t3, t4⟩ := T
    rw [dvLL_l] at t3 t4
    unfold wpDV_J16_indexOf wpDV_J16_indexOf_2 wpDV_J16_isLatin1
    refine ⟨fun _ => ⟨fun q => absurd q (by decide), fun _ => CDV_len ⟨t1, t2, by rw [dvLL_l]; exact t3, by rw [dvLL_l]; exact t4⟩ ?_⟩, fun q => absurd rfl q⟩
    unfold wpDV_J17_indexOf wpDV_J17_canEncode
    rw [dvLL_l]
    refine ⟨fun q => by omega, fun _ => ⟨fun q => by omega, fun _ => ⟨fun q => absurd q (by decide), fun _ x2 e2 => kOn_some ⟨t2, fun x3 e3 => ⟨fun l => ?_, fun l => ?_⟩⟩⟩⟩⟩
    · unfold wpDV_J17_indexOfChar
      intro x4 e4
      rw [w8_id (by omega)] at e4
      have x3e : x3 = 64 := by rw [e3, t3]; rfl
      rw [if_neg (by decide)] at e2
      rw [e4, x3e, e2]
      exact ⟨65, CDV_iC t2 t3 (fun i hi => by rw [(t4 i hi).1, dvLL_g hi]) (fun q => CDV_l20 R h ⟨nl _, nl _⟩ H) (fun q => CDV_l20 R h ⟨nl _, nl _⟩ (by rw [q] at H; exact H)) 65 0 (by decide) (by decide) (by decide) (fun i i0 i1 => by omega)⟩
    · rw [if_neg (by decide)] at e2
      rw [t3] at e3
      exact absurd (by rw [e2, e3]; decide) l
end
section
variable {post : Option Nat → (Nat → Nat) → (Nat → Int) → (Nat → Int) → (Nat → Int) → (Nat → Int) → (Nat → Int) → Prop} {px : Nat → (Nat → Nat) → (Nat → Int) → (Nat → Int) → (Nat → Int) → (Nat → Int) → (Nat → Int) → Prop}
theorem CDV_s177 {r1 : Int} {neg : Prop} [Decidable neg] (hM : kc + 1 ≤ MC ∧ ks + 3 ≤ MS) (R : dvR kd an ai mX67_tape mX67_size mX67_wrong sa p qt tp sz) (h : dvG sz a) (er : r1 = 0 ↔ ¬ neg) (hb : dvSd mo mi) (H : dvGS post px kd mX67_at mX67_place mX68_kind mX73_months mX73_millis p sz (dvSe neg sf a mo mi)) : wDV_X67_span_177 MC MS post px p r1 mo mi sf kd (va_up mX67_at p a) mX67_wrong mX67_place mX68_kind mX73_months mX73_millis sa kc ks := by
  unfold dvSd at hb
  unfold dvSe at H
  have fin : ∀ (K1 M1 I1 : Nat → Int) (q : Nat) (x y : Int), K1 = va_up mX68_kind q 0 → M1 = va_up mX73_months q 0 → I1 = va_up mX73_millis q 0 → post (some q) (va_up kd q 7) (va_up mX67_at p a) mX67_place (va_up mX68_kind q 6) (va_up mX73_months q x) (va_up mX73_millis q y) → wpDV_X73_init (fun (k2 : Nat → Int) (m2 : Nat → Int) (i2 : Nat → Int) => ((kc + 0) + 1 ≤ MC ∧ (ks + 0) + 3 ≤ MS ∧ post (some q) (va_up kd q 7) (va_up mX67_at p a) mX67_place k2 m2 i2)) K1 M1 I1 q x y := fun K1 M1 I1 q x y eK eM eI hp => by
    subst eK eM eI
    unfold wpDV_X73_init wpDV_X68_init
    intro K2 eK2 M2 eM2 I2 eI2
    refine ⟨by omega, by omega, ?_⟩
    rw [eK2, eM2, eI2, va_up_up, va_up_up, va_up_up]; exact hp
  unfold wDV_X67_span_177
  refine ⟨0, 0, by omega, CDV_need R (fun s0 => ⟨fun z => ⟨by omega, fun q hq K eK M eM I eI => ⟨by omega, fin _ _ _ _ _ _ eK eM eI ?_⟩⟩, fun z => ⟨by omega, fun q hq K eK M eM I eI => ⟨by omega, by omega, by omega, fin _ _ _ _ _ _ eK eM eI ?_⟩⟩⟩) (fun s0 => ?_)⟩
  · rw [if_neg s0, if_neg (er.mp z)] at H
    exact H.1 rfl h q hq
  · rw [if_neg s0, if_pos (Classical.byContradiction (fun w => z (er.mpr w)))] at H
    exact H.1 rfl h q hq
  · rw [if_pos s0] at H
    rw [va_up_self]; exact H.2 h.1 a
end
end

/-! DatatypeValues, the component: spans whole; rows copied -/
section
variable {kd : Nat → Nat} {an : Nat → Nat} {ai : Nat → Int → Int} {al : Nat → Int → Int} {ar : Nat → Int → Option Nat} {mX6_tape : Nat → Option Nat} {mX6_size : Nat → Int} {mX6_values : Nat → Option Nat} {mX6_count : Nat → Int} {mX6_writer : Nat → Option Nat} {mX7_bytes : Nat → Option Nat} {mX7_size : Nat → Int} {mX67_tape : Nat → Option Nat} {mX67_size : Nat → Int} {mX67_at : Nat → Int} {mX67_wrong : Nat → Option Nat} {mX67_place : Nat → Int} {mX68_kind : Nat → Int} {mX69_upper : Nat → Int} {mX69_lower : Nat → Int} {mX70_is : Nat → Int} {mX72_millis : Nat → Int} {mX72_zone : Nat → Int} {mX73_months : Nat → Int} {mX73_millis : Nat → Int} {mX74_bytes : Nat → Option Nat} {sa : Nat → Nat} {so : kSo} {p qt q q0 s : Nat} {tp : Int → Int} {sz a b x y w c mo mi sf n : Int} {v : Nat} {MC MS kc ks : Nat}
theorem CDV_span {post : Option Nat → (Nat → Nat) → (Nat → Int) → (Nat → Int) → (Nat → Int) → (Nat → Int) → (Nat → Int) → Prop} {px : Nat → (Nat → Nat) → (Nat → Int) → (Nat → Int) → (Nat → Int) → (Nat → Int) → (Nat → Int) → Prop} (hM : 1 ≤ MC ∧ 3 ≤ MS) (R : dvR kd an ai mX67_tape mX67_size mX67_wrong sa p qt tp sz) (h : dvG sz a) (T1 : txS so (sa 259) (dvWd 5852484 3)) (T2 : txS so (sa 260) (dvWd 4738387 3)) (H : dvGS post px kd mX67_at mX67_place mX68_kind mX73_months mX73_millis p sz (dvSn tp sz a)) : wpDV_X67_span MC MS post px kd an ai mX67_tape mX67_size (va_up mX67_at p a) mX67_wrong mX67_place mX68_kind mX73_months mX73_millis sa so p := by
  have nl := Nat.zero_le
  have key : ∀ (r1 a1 : Int) (neg : Prop) [Decidable neg], (r1 = 0 ↔ ¬ neg) → dvG sz a1 → dvGS post px kd mX67_at mX67_place mX68_kind mX73_months mX73_millis p sz (dvS1 tp sz neg a1) → wpDV_X67_want 0 0 (fun (at4 : Nat → Int) (pl5 : Nat → Int) => ∃ fu : Nat, wDV_X67_span_24 MC MS post px (fun (x2 : Int) (x4 : Int) (x7 : Int) (at83 : Nat → Int) (pl84 : Nat → Int) (kc : Nat) (ks : Nat) => (kc ≤ MC ∧ ks ≤ MS) ∧ wpDV_X67_takes (fun (r : Int) (at88 : Nat → Int) => ((r = 0 → wDV_X67_span_177 MC MS post px p r1 x2 x4 x7 kd at88 mX67_wrong pl84 mX68_kind mX73_months mX73_millis sa kc ks) ∧ (¬ r = 0 → (∃ mc ms : Nat, (kc + mc ≤ MC ∧ ks + ms ≤ MS) ∧ wpDV_X67_clock mc ms (fun (r123 : Int) (at124 : Nat → Int) (pl125 : Nat → Int) => (zL (x4 + r123) ∧ (∀ x4' : Int, x4' = x4 + r123 → wDV_X67_span_177 MC MS post px p r1 x2 x4' 1 kd at124 mX67_wrong pl125 mX68_kind mX73_months mX73_millis sa (kc + mc) (ks + ms)))) (fun (k : Nat) (at_ : Nat → Int) (pl : Nat → Int) => px k kd at_ pl mX68_kind mX73_months mX73_millis) kd an ai mX67_tape mX67_size at88 mX67_wrong pl84 sa so p)))) kd an ai mX67_tape mX67_size at83 p 84) p kd an ai mX67_tape mX67_size mX67_wrong mX68_kind mX73_months mX73_millis sa so fu 0 0 0 0 at4 pl5 (0 + 0) (0 + 0)) (fun (k : Nat) (at_ : Nat → Int) (pl : Nat → Int) => px k kd at_ pl mX68_kind mX73_months mX73_millis) kd an ai mX67_tape mX67_size (va_up mX67_at p a1) mX67_wrong mX67_place sa p 80 := fun r1 a1 neg _ er G1 H => by
    unfold dvS1 at H
    refine CDV_want R G1.a (fun e => ⟨4, ?_⟩) (fun e => by rw [if_pos e] at H; exact H.2 G1.1 a1)
    rw [if_neg (fun z => z e)] at H
    have G2 := dvG_w G1 e (by decide)
    refine CDV_s24 (kc := 0 + 0) (ks := 0 + 0) ⟨nl _, nl _⟩ R T1 4 0 (a1 + 1) 0 0 0 (by decide) (by decide) (by decide) G2 (by decide) (by decide) (Or.inl rfl) (fun e2 G3 sb sf => ⟨⟨nl _, nl _⟩, CDV_takes R G3.a (fun e3 => ⟨fun z => absurd z (by decide), fun _ => ⟨0, 0, ⟨nl _, nl _⟩, ?_⟩⟩) (fun e3 => ⟨fun _ => ?_, fun z => absurd rfl z⟩)⟩) (fun e2 a' => ?_)
    · rw [if_neg (by omega), if_pos e3] at H
      have G4 := dvG_w G3 e3 (by decide)
      have S := dvCk_s (tp := tp) (sz := sz) (c := (dvSp tp sz 4 0 (a1 + 1) 0 0 0).2.2.2.1) 4 0 ((dvSp tp sz 4 0 (a1 + 1) 0 0 0).2.1 + 1) 0 G4.1
      rw [Int.add_zero] at S
      refine CDV_clock R G4 T2 (fun e4 G5 cb => ⟨?_, fun x4 ex => ?_⟩) (fun e4 a' => ?_)
      · have := sb.2; omega
      · rw [if_neg (by omega), (S.2 e4).1, (S.2 e4).2, ← ex] at H
        refine CDV_s177 (by omega) R G5 er ⟨sb.1, ?_⟩ H
        have := sb.2
        omega
      · rw [if_pos (by omega), S.1] at H
        exact H.2 e4 a'
    · rw [if_neg (by omega), if_neg e3] at H
      exact CDV_s177 (by omega) R G3 er sb.d H
    · rw [if_pos e2] at H
      exact H.2 e2 a'
  unfold dvSn at H
  unfold wpDV_X67_span
  refine ⟨⟨nl _, nl _⟩, CDV_takes R h.a (fun e => ⟨0, 0, ⟨nl _, nl _⟩, ?_⟩) (fun e => ⟨0, 0, ⟨nl _, nl _⟩, ?_⟩)⟩
  · rw [if_pos e] at H
    exact key 1 (a + 1) _ ⟨fun z => absurd z (by decide), fun z => absurd e z⟩ (dvG_w h e (by decide)) H
  · rw [if_neg e] at H
    exact key 0 a _ ⟨fun _ => e, fun _ => rfl⟩ h H
theorem CDV_row {post : Option Nat → (Nat → Nat) → (Nat → Nat) → (Nat → Int → Int) → Prop} (hn : 0 ≤ n ∧ n ≤ 100) (hM : 1 ≤ MC ∧ n.toNat ≤ MS) (k0 : kd q0 = 10) (l0 : n ≤ (an q0 : Int)) (hb : ∀ k, 0 ≤ k → k < n → -128 ≤ ai q0 k ∧ ai q0 k < 128) (H : ∀ q, kd q = 0 → post (some q) (va_up kd q 10) (va_up an q n.toNat) (va_up ai q (fun k => if 0 ≤ k ∧ k < n then ai q0 k else 0))) : wpDV_X67_row MC MS post kd an ai (some q0) n := by
  unfold wpDV_X67_row
  refine ⟨⟨hn.1, by have : componentBytes .byte = 1 := rfl; rw [this]; omega⟩, by omega, fun q hq an3 ea ks4 ek ai5 e5 => ?_⟩
  have ne : q0 ≠ q := fun e => by rw [e, hq] at k0; exact absurd k0 (by decide)
  refine wl2 (fun f x3 A => wDV_X67_row_6 MC MS _ (some q0) n (some q) (va_up kd q 10) an3 f x3 A) (fun x3 A => (0 ≤ x3 ∧ x3 ≤ n) ∧ A = va_up ai q (fun k => if 0 ≤ k ∧ k < x3 then ai q0 k else 0)) (fun x3 _ => (n - x3).toNat) ?_ 0 ai5 ⟨by omega, by rw [e5]; congr 1; funext k; rw [if_neg (by omega)]⟩
  rintro x3 A ⟨hx, eA⟩ f ih
  rw [wDV_X67_row_6]
  have u1 : va_up kd q 10 q0 = kd q0 := if_neg ne
  have u2 : va_up an q n.toNat q0 = an q0 := if_neg ne
  have u3 : A q0 = ai q0 := by rw [eA]; exact if_neg ne
  refine ⟨fun z => ⟨by omega, by omega, ?_⟩, fun z => kOn_some ⟨by rw [u1]; exact k0, by rw [ea, u2]; omega, fun v ev => kOn_some ⟨va_up_self _ _ _, by rw [ea, va_up_self]; omega, by rw [ev, u3]; exact hb x3 hx.1 (by omega), fun A2 e2 => ⟨by omega, fun x4 e4 => ?_⟩⟩⟩⟩
  · have : x3 = n := by omega
    rw [eA, this, ea]; exact H q hq
  · subst e4
    refine ih _ _ ⟨by omega, ?_⟩ (by omega)
    rw [e2, ev, u3, eA, va_up_self, va_up_up]
    congr 1
    funext k
    unfold updI
    by_cases e : k = x3
    · rw [if_pos e, if_pos (by omega), e]
    · rw [if_neg e]
      show (if 0 ≤ k ∧ k < x3 then ai q0 k else 0) = _
      by_cases w : 0 ≤ k ∧ k < x3
      · rw [if_pos w, if_pos (by omega)]
      · rw [if_neg w, if_neg (by omega)]
end

/-! DatatypeValues, the component: rows of hex digits are read -/
/-- how the reading of a row ends; S: how many places the first array has -/
def dvGH (post : Option Nat → (Nat → Nat) → (Nat → Nat) → (Nat → Int → Int) → (Nat → Int) → (Nat → Int) → (Nat → Int) → (Nat → Option Nat) → Prop) (px : Nat → (Nat → Nat) → (Nat → Nat) → (Nat → Int → Int) → (Nat → Int) → (Nat → Int) → (Nat → Int) → (Nat → Option Nat) → Prop) (kd an : Nat → Nat) (ai : Nat → Int → Int) (m pl K : Nat → Int) (B : Nat → Option Nat) (p : Nat) (kind : Int) (S : Nat) (r : Int × Int × Int × (Int → Int)) : Prop :=
  (r.1 = -1 → (0 ≤ r.2.2.1 ∧ r.2.2.1 ≤ 20) → ∀ q1 q2 q3 f, kd q1 = 0 → va_up kd q1 10 q2 = 0 → va_up (va_up kd q1 10) q2 8 q3 = 0 → (∀ k, 0 ≤ k → k < r.2.2.1 → f k = w8 (r.2.2.2 k)) →
    post (some q2) (va_up (va_up (va_up kd q1 10) q2 8) q3 10) (va_up (va_up an q1 S) q3 r.2.2.1.toNat) (va_up (va_up ai q1 f) q3 (fun k => if 0 ≤ k ∧ k < r.2.2.1 then f k else 0)) (va_up m p r.2.1) pl (va_up K q2 kind) (va_up B q2 (some q3))) ∧
  (0 ≤ r.1 → ∀ a q1 f, kd q1 = 0 → px 2 (va_up kd q1 10) (va_up an q1 S) (va_up ai q1 f) (va_up m p a) (va_up pl p r.1) K B)
theorem dv_nib : ∀ h : Nat, h < 16 → ∀ l : Nat, l < 16 → w8 (zor (w8 ((h : Int) * 16)) (w8 (l : Int))) = w8 (16 * (h : Int) + l) := by decide +kernel
theorem dvHv_16 {b : Int} : dvHv b < 16 := by
  unfold dvHv
  split
  · omega
  · split
    · omega
    · split <;> omega
theorem dvHv_nn {b : Int} (h : 0 ≤ dvHv b) : ¬ b = -1 := fun e => by
  rw [e] at h
  exact absurd h (by decide)
section
variable {kd : Nat → Nat} {an : Nat → Nat} {ai : Nat → Int → Int} {al : Nat → Int → Int} {ar : Nat → Int → Option Nat} {mX6_tape : Nat → Option Nat} {mX6_size : Nat → Int} {mX6_values : Nat → Option Nat} {mX6_count : Nat → Int} {mX6_writer : Nat → Option Nat} {mX7_bytes : Nat → Option Nat} {mX7_size : Nat → Int} {mX67_tape : Nat → Option Nat} {mX67_size : Nat → Int} {mX67_at : Nat → Int} {mX67_wrong : Nat → Option Nat} {mX67_place : Nat → Int} {mX68_kind : Nat → Int} {mX69_upper : Nat → Int} {mX69_lower : Nat → Int} {mX70_is : Nat → Int} {mX72_millis : Nat → Int} {mX72_zone : Nat → Int} {mX73_months : Nat → Int} {mX73_millis : Nat → Int} {mX74_bytes : Nat → Option Nat} {sa : Nat → Nat} {so : kSo} {p qt q q1 s : Nat} {tp : Int → Int} {sz a b x y w c n : Int} {v S : Nat} {MC MS kc ks : Nat} {f : Int → Int}
theorem dvR.arr (R : dvR kd an ai mX67_tape mX67_size mX67_wrong sa p qt tp sz) (hq : kd q1 = 0) : dvR (va_up kd q1 10) (va_up an q1 S) (va_up ai q1 f) mX67_tape mX67_size mX67_wrong sa p qt tp sz := by
  obtain ⟨⟨r1, r2, r3, r4⟩, r5, r6, r7⟩ := R.up (v := 10) hq
  have n1 : qt ≠ q1 := fun e => by have := R.1.2.1; rw [e, hq] at this; exact absurd this (by decide)
  exact ⟨⟨r1, r2, (if_neg n1).trans r3, (if_neg n1).trans r4⟩, r5, r6, r7⟩
theorem CDV_h7 {post : Option Nat → (Nat → Nat) → (Nat → Nat) → (Nat → Int → Int) → (Nat → Int) → (Nat → Int) → (Nat → Int) → (Nat → Option Nat) → Prop} {px : Nat → (Nat → Nat) → (Nat → Nat) → (Nat → Int → Int) → (Nat → Int) → (Nat → Int) → (Nat → Int) → (Nat → Option Nat) → Prop} {K65 : Int → (Nat → Int → Int) → (Nat → Int) → (Nat → Int) → Nat → Nat → Prop} (hT : dvT tp) (hk : kc ≤ MC ∧ ks ≤ MS) (R : dvR kd an ai mX67_tape mX67_size mX67_wrong sa p qt tp sz) (hq : kd q1 = 0) : ∀ (f : Nat) (a n : Int) (row g : Int → Int), dvG sz a → (0 ≤ n ∧ n ≤ 20) → sz - a < 2 * f → (∀ k, 0 ≤ k → k < n → g k = w8 (row k)) →
    ((dvHx tp sz f a n row).1 = -1 → (0 ≤ (dvHx tp sz f a n row).2.2.1 ∧ (dvHx tp sz f a n row).2.2.1 ≤ 20) → ∀ g', (∀ k, 0 ≤ k → k < (dvHx tp sz f a n row).2.2.1 → g' k = w8 ((dvHx tp sz f a n row).2.2.2 k)) → K65 (dvHx tp sz f a n row).2.2.1 (va_up ai q1 g') (va_up mX67_at p (dvHx tp sz f a n row).2.1) mX67_place kc ks) →
    (0 ≤ (dvHx tp sz f a n row).1 → ∀ a' g', px 2 (va_up kd q1 10) (va_up an q1 20) (va_up ai q1 g') (va_up mX67_at p a') (va_up mX67_place p (dvHx tp sz f a n row).1) mX68_kind mX74_bytes) →
    wDV_X67_hex_7 MC MS post px K65 p (some q1) (va_up kd q1 10) (va_up an q1 20) mX67_tape mX67_size mX67_wrong mX68_kind mX74_bytes sa (f + 1) n (va_up ai q1 g) (va_up mX67_at p a) mX67_place kc ks
  | 0, a, n, row, g, G, hn, hf, hg, ok, bad => by
    rw [wDV_X67_hex_7]
    dsimp only
    rw [R.2.1, va_up_self]
    exact ⟨fun _ => ok rfl hn g hg, fun z => absurd (by omega) z⟩
  | f + 1, a, n, row, g, G, hn, hf, hg, ok, bad => by
    rw [wDV_X67_hex_7]
    dsimp only
    rw [R.2.1, va_up_self]
    rw [dvHx] at ok bad
    refine ⟨fun z => ?_, fun z => ⟨fun z2 => ?_, fun z2 => ?_⟩⟩
    · rw [if_pos z] at ok; exact ok rfl hn g hg
    · rw [if_neg z, if_pos z2] at bad
      unfold wDV_X67_hex_30
      exact kOn_some ⟨(R.arr (S := 20) (f := g) hq).2.2.2, 0, 0, hk, CDV_need (R.arr (S := 20) (f := g) hq) (fun q => absurd rfl q) (fun _ => by rw [va_up_self]; exact bad G.1 a g)⟩
    rw [if_neg z, if_neg z2] at ok bad
    have hA : dvA sz (a + 1) := ⟨by have := G.1; omega, by have := G.2.1; omega, G.2.2⟩
    unfold wDV_X67_hex_30
    refine kOn_some ⟨(R.arr (S := 20) (f := g) hq).2.2.2, 0, 0, hk, CDV_need (R.arr (S := 20) (f := g) hq) (fun _ => ⟨0, 0, hk, CDV_nibble hT (R.arr (S := 20) (f := g) hq) G.a ⟨fun b1 => ?_, fun b1 => ?_⟩⟩) (fun q => absurd q (by decide))⟩
    rotate_left
    · rw [if_pos b1] at bad
      exact bad G.1 a g
    rw [if_neg (by omega)] at ok bad
    intro v27 e27
    refine kOn_some ⟨va_up_self _ _ _, by rw [va_up_self]; omega, by rw [e27]; exact dv_w8, fun ai32 e32 => ⟨0, 0, hk, ?_⟩⟩
    rw [va_up_self, va_up_up] at e32
    subst e32
    refine CDV_nibble hT (R.arr (S := 20) (f := updI g n v27) hq) hA ⟨fun b2 => ?_, fun b2 => ?_⟩
    rotate_left
    · rw [if_pos b2] at bad
      exact bad hA.1 (a + 1) _
    rw [if_neg (by omega)] at ok bad
    intro v47 e47
    refine ⟨by rw [e47]; exact dv_w8, fun ai49 e49 => ⟨by omega, fun n2 en => ?_⟩⟩
    rw [va_up_self] at e47
    rw [va_up_self, va_up_up] at e49
    subst e49 en
    have s1 := dvH_s (dvHv_nn b2)
    have g2 := G.2.2
    have i1 := dvHv_16 (b := dvH tp sz a)
    have i2 := dvHv_16 (b := dvH tp sz (a + 1))
    have nib := dv_nib (dvHv (dvH tp sz a)).toNat (by omega) (dvHv (dvH tp sz (a + 1))).toNat (by omega)
    rw [show (((dvHv (dvH tp sz a)).toNat : Nat) : Int) = dvHv (dvH tp sz a) by omega, show (((dvHv (dvH tp sz (a + 1))).toNat : Nat) : Int) = dvHv (dvH tp sz (a + 1)) by omega] at nib
    rw [show a + 1 + 1 = a + 2 by omega]
    refine CDV_h7 hT hk R hq f (a + 2) (n + 1) _ _ ⟨by have := G.1; omega, by omega, G.2.2⟩ (by omega) (by omega) (fun k k0 k1 => ?_) ok bad
    unfold updI
    by_cases e : k = n
    · rw [if_pos e, if_pos e, e47]
      unfold updI
      rw [if_pos rfl, e27, nib]
    · rw [if_neg e, if_neg e, if_neg e]
      exact hg k k0 (by omega)
theorem CDV_hex {post : Option Nat → (Nat → Nat) → (Nat → Nat) → (Nat → Int → Int) → (Nat → Int) → (Nat → Int) → (Nat → Int) → (Nat → Option Nat) → Prop} {px : Nat → (Nat → Nat) → (Nat → Nat) → (Nat → Int → Int) → (Nat → Int) → (Nat → Int) → (Nat → Int) → (Nat → Option Nat) → Prop} (hT : dvT tp) (hM : 3 ≤ MC ∧ 50 ≤ MS) (R : dvR kd an ai mX67_tape mX67_size mX67_wrong sa p qt tp sz) (h : dvG sz 0) (H : dvGH post px kd an ai mX67_at mX67_place mX68_kind mX74_bytes p 7 20 (dvHx tp sz 33 0 0 (fun _ => 0))) : wpDV_X67_hex MC MS post px kd an ai mX67_tape mX67_size (va_up mX67_at p 0) mX67_wrong mX67_place mX68_kind mX74_bytes sa p := by
  unfold wpDV_X67_hex
  refine ⟨by omega, fun q1 hq ai2 e2 => ⟨34, ?_⟩⟩
  subst e2
  have s0 := h.2.2
  refine CDV_h7 (kc := 0 + 1) (ks := 0 + 20) hT (by omega) R hq 33 0 0 (fun _ => 0) (fun _ => 0) h (by decide) (by omega) (fun k k0 k1 => by omega) (fun e1 hn g hg => ⟨by omega, fun q2 hq2 K eK B eB => ⟨1, 20, by omega, ?_⟩⟩) (fun e1 a' g => H.2 e1 a' q1 g hq)
  have ne : q1 ≠ q2 := fun e => by rw [← e, va_up_self] at hq2; exact absurd hq2 (by decide)
  have u1 : va_up (va_up kd q1 10) q2 8 q1 = 10 := (if_neg ne).trans (va_up_self _ _ _)
  refine CDV_row ⟨hn.1, by omega⟩ (by omega) u1 (by rw [va_up_self]; omega) (fun k k0 k1 => by rw [va_up_self, hg k k0 k1]; exact dv_w8) (fun q3 hq3 _ => ⟨by omega, ?_⟩)
  unfold wpDV_X74_init wpDV_X68_init
  intro K2 eK2 B2 eB2
  refine ⟨by omega, by omega, ?_⟩
  rw [eK2, eB2, eK, eB, va_up_up, va_up_up, va_up_self]
  exact H.1 e1 hn q1 q2 q3 g hq hq2 hq3 hg
end

/-! DatatypeValues, the component: rows in base 64 are read -/
theorem zb_tb (n j : Nat) : zb (n : Int) j = 1 ↔ n.testBit j = true := by
  have e : zb (n : Int) j = ((n / 2 ^ j % 2 : Nat) : Int) := by
    unfold zb
    rw [Int.natCast_emod, Int.natCast_ediv, Int.natCast_pow]; rfl
  rw [e, Nat.testBit_eq_decide_div_mod_eq, decide_eq_true_iff]
  omega
theorem dv_or {A Y k : Nat} (hY : Y < 2 ^ k) (hs : 2 ^ k * A + Y < 2147483648) : zor ((2 ^ k * A : Nat) : Int) (Y : Int) = ((2 ^ k * A + Y : Nat) : Int) :=
  zb_ext32 (zr_or32 _ _) ⟨by omega, by omega⟩ (fun j hj => by rw [zb_or32 ⟨by omega, by omega⟩ ⟨by omega, by omega⟩ hj, zb_tb, zb_tb, zb_tb, Nat.two_pow_add_eq_or_of_lt hY, Nat.testBit_or, Bool.or_eq_true])
theorem dv_or1 {a b : Int} (ha : 0 ≤ a ∧ a < 64) (hb : 0 ≤ b ∧ b < 64) : zor (a * 262144) (b * 4096) = a * 262144 + b * 4096 := by
  have := dv_or (A := a.toNat) (Y := (b * 4096).toNat) (k := 18) (by omega) (by omega)
  rw [show ((2 ^ 18 * a.toNat : Nat) : Int) = a * 262144 by omega, show (((b * 4096).toNat : Nat) : Int) = b * 4096 by omega] at this
  rw [this]; omega
theorem dv_or2 {x c : Int} (hx : 0 ≤ x ∧ x < 16777216) (hm : x % 4096 = 0) (hc : 0 ≤ c ∧ c < 64) : zor x (c * 64) = x + c * 64 := by
  have := dv_or (A := (x / 4096).toNat) (Y := (c * 64).toNat) (k := 12) (by omega) (by omega)
  rw [show ((2 ^ 12 * (x / 4096).toNat : Nat) : Int) = x by omega, show (((c * 64).toNat : Nat) : Int) = c * 64 by omega] at this
  rw [this]; omega
theorem dv_or3 {x c : Int} (hx : 0 ≤ x ∧ x < 16777216) (hm : x % 64 = 0) (hc : 0 ≤ c ∧ c < 64) : zor x c = x + c := by
  have := dv_or (A := (x / 64).toNat) (Y := c.toNat) (k := 6) (by omega) (by omega)
  rw [show ((2 ^ 6 * (x / 64).toNat : Nat) : Int) = x by omega, show ((c.toNat : Nat) : Int) = c by omega] at this
  rw [this]; omega
theorem dvSx_nn {b : Int} (h : 0 ≤ dvSx b) : ¬ b = -1 := fun e => by
  rw [e] at h
  exact absurd h (by decide)
theorem w8_m {x y : Int} (h : x % 256 = y % 256) : w8 x = w8 y := by
  unfold w8
  rw [← Int.emod_bmod (x := x), ← Int.emod_bmod (x := y)]
  exact congrArg (fun z => Int.bmod z 256) h
section
variable {kd : Nat → Nat} {an : Nat → Nat} {ai : Nat → Int → Int} {al : Nat → Int → Int} {ar : Nat → Int → Option Nat} {mX6_tape : Nat → Option Nat} {mX6_size : Nat → Int} {mX6_values : Nat → Option Nat} {mX6_count : Nat → Int} {mX6_writer : Nat → Option Nat} {mX7_bytes : Nat → Option Nat} {mX7_size : Nat → Int} {mX67_tape : Nat → Option Nat} {mX67_size : Nat → Int} {mX67_at : Nat → Int} {mX67_wrong : Nat → Option Nat} {mX67_place : Nat → Int} {mX68_kind : Nat → Int} {mX69_upper : Nat → Int} {mX69_lower : Nat → Int} {mX70_is : Nat → Int} {mX72_millis : Nat → Int} {mX72_zone : Nat → Int} {mX73_months : Nat → Int} {mX73_millis : Nat → Int} {mX74_bytes : Nat → Option Nat} {sa : Nat → Nat} {so : kSo} {p qt q q1 s : Nat} {tp : Int → Int} {sz a b x y w c n : Int} {v S : Nat} {MC MS kc ks : Nat} {f : Int → Int}
theorem CDV_b24 {post : Option Nat → (Nat → Nat) → (Nat → Nat) → (Nat → Int → Int) → (Nat → Int) → (Nat → Int) → (Nat → Int) → (Nat → Option Nat) → Prop} {px : Nat → (Nat → Nat) → (Nat → Nat) → (Nat → Int → Int) → (Nat → Int) → (Nat → Int) → (Nat → Int) → (Nat → Option Nat) → Prop} {K270 : Int → (Nat → Int → Int) → (Nat → Int) → (Nat → Int) → Nat → Nat → Prop} (hT : dvT tp) (hk : kc ≤ MC ∧ ks ≤ MS) (R : dvR kd an ai mX67_tape mX67_size mX67_wrong sa p qt tp sz) (T : txS so (sa 261) dvLL) (hq : kd q1 = 0) : ∀ (f : Nat) (a n fl : Int) (row g : Int → Int), dvG sz a → (0 ≤ n ∧ n ≤ 18 ∧ n % 3 = 0) → sz - a < 4 * f → (fl = 0 ↔ sz ≤ a) → (∀ k, 0 ≤ k → k < n → g k = w8 (row k)) →
    ((dvBs tp sz f a n row).1 = -1 → (0 ≤ (dvBs tp sz f a n row).2.2.1 ∧ (dvBs tp sz f a n row).2.2.1 ≤ 20) → ∀ g', (∀ k, 0 ≤ k → k < (dvBs tp sz f a n row).2.2.1 → g' k = w8 ((dvBs tp sz f a n row).2.2.2 k)) → K270 (dvBs tp sz f a n row).2.2.1 (va_up ai q1 g') (va_up mX67_at p (dvBs tp sz f a n row).2.1) mX67_place kc ks) →
    (0 ≤ (dvBs tp sz f a n row).1 → ∀ a' g', px 2 (va_up kd q1 10) (va_up an q1 24) (va_up ai q1 g') (va_up mX67_at p a') (va_up mX67_place p (dvBs tp sz f a n row).1) mX68_kind mX74_bytes) →
    wDV_X67_base_24 MC MS post px K270 p (some q1) (va_up kd q1 10) (va_up an q1 24) mX67_tape mX67_size mX67_wrong mX68_kind mX74_bytes sa so (f + 1) n fl (va_up ai q1 g) (va_up mX67_at p a) mX67_place kc ks
  | 0, a, n, fl, row, g, G, hn, hf, hfl, hg, ok, bad => by
    rw [wDV_X67_base_24]
    exact ⟨fun _ => ok rfl (show 0 ≤ n ∧ n ≤ 20 by omega) g hg, fun z => absurd (hfl.mpr (by omega)) z⟩
  | f + 1, a, n, fl, row, g, G, hn, hf, hfl, hg, ok, bad => by
    rw [wDV_X67_base_24]
    dsimp only
    rw [dvBs] at ok bad
    have g0 := G.1
    have g1 := G.2.1
    have A : ∀ j : Int, 0 ≤ j → j ≤ 4 → dvA sz (a + j) := fun j j0 j1 => ⟨by omega, by omega, G.2.2⟩
    have RR : ∀ h : Int → Int, dvR (va_up kd q1 10) (va_up an q1 24) (va_up ai q1 h) mX67_tape mX67_size mX67_wrong sa p qt tp sz := fun h => R.arr (S := 24) (f := h) hq
    refine ⟨fun z => ?_, fun z => ⟨0, 0, hk, CDV_letter hT (RR g) G.a T ⟨fun b1 => ⟨0, 0, hk, ?_⟩, fun b1 => ?_⟩⟩⟩
    · rw [if_pos (hfl.mp z)] at ok; exact ok rfl (show 0 ≤ n ∧ n ≤ 20 by omega) g hg
    rotate_left
    · rw [if_neg (fun w => z (hfl.mpr w)), if_pos b1] at bad
      exact bad g0 a g
    rw [if_neg (fun w => z (hfl.mpr w)), if_neg (by omega)] at ok bad
    have i1 := dvSx_b (b := dvH tp sz a)
    refine CDV_letter hT (RR g) (A 1 (by decide) (by decide)) T ⟨fun b2 => ?_, fun b2 => ?_⟩
    rotate_left
    · rw [if_pos b2] at bad
      exact bad (by show 0 ≤ a + 1; omega) (a + 1) g
    rw [if_neg (by omega)] at ok bad
    have i2 := dvSx_b (b := dvH tp sz (a + 1))
    have l2 := dvH_s (dvSx_nn b2)
    intro x4 e4 v32 e32
    rw [dv_or1 ⟨b1, by omega⟩ ⟨b2, by omega⟩] at e4
    refine kOn_some ⟨va_up_self _ _ _, by rw [va_up_self]; omega, by rw [e32]; exact dv_w8, fun ai37 e37 => ⟨by omega, fun n1 en1 => ⟨hk, ?_⟩⟩⟩
    rw [va_up_self, va_up_up] at e37
    subst e37
    have v1 : v32 = w8 (4 * dvSx (dvH tp sz a) + dvSx (dvH tp sz (a + 1)) / 16) := by rw [e32]; exact w8_m (by omega)
    generalize eX : 4 * dvSx (dvH tp sz a) + dvSx (dvH tp sz (a + 1)) / 16 = B1 at *
    have h1 : ∀ k, 0 ≤ k → k < n + 1 → updI g n v32 k = w8 (updI row n B1 k) := fun k k0 k1 => by
      unfold updI
      by_cases e : k = n
      · rw [if_pos e, if_pos e, v1]
      · rw [if_neg e, if_neg e]; exact hg k k0 (by omega)
    rw [show a + 1 + 1 = a + 2 by omega]
    refine CDV_here (RR _) (A 2 (by decide) (by decide)) ⟨fun c3 => ?_, fun c3 => ⟨0, 0, hk, CDV_letter hT (RR _) (A 2 (by decide) (by decide)) T ⟨fun b3 => ?_, fun b3 => ?_⟩⟩⟩
    · rw [if_pos c3] at ok bad
      have l3 := dvH_s (show ¬ dvH tp sz (a + 2) = -1 by rw [c3]; decide)
      have m16 : x4 / 4096 % 16 = dvSx (dvH tp sz (a + 1)) % 16 := by omega
      rw [m16]
      refine ⟨fun m0 => ?_, fun m0 => ?_⟩
      · rw [if_neg (fun w => w m0)] at ok bad
        unfold wDV_X67_base_83
        refine kOn_some ⟨(RR g).2.2.2, 0, 0, hk, CDV_need (RR (updI g n v32)) (fun _ => ⟨by rw [va_up_self]; omega, fun vv evv mm emm => ⟨0, 0, hk, ?_⟩⟩) (fun q => absurd q (by decide))⟩
        rw [va_up_self] at evv
        rw [emm, evv, va_up_up, show a + 2 + 1 = a + 3 by omega]
        refine CDV_want (RR (updI g n v32)) (A 3 (by decide) (by decide)) (fun e5 => ?_) (fun e5 => ?_)
        · rw [if_pos e5] at ok
          have := ok rfl (by show 0 ≤ n + 1 ∧ n + 1 ≤ 20; omega) (updI g n v32) h1
          rw [wDV_X67_base_24]
          rw [en1, show a + 3 + 1 = a + 4 by omega]
          exact ⟨fun _ => this, fun q => absurd rfl q⟩
        · rw [if_neg e5] at bad
          exact bad (by show 0 ≤ a + 3; omega) _ _
      · rw [if_pos m0] at bad
        unfold wDV_X67_base_83
        exact kOn_some ⟨(RR g).2.2.2, 0, 0, hk, CDV_need (RR (updI g n v32)) (fun q => absurd rfl q) (fun _ => by rw [va_up_self]; exact bad (by show 0 ≤ a + 2; omega) _ _)⟩
    · rw [if_neg c3, if_neg (by omega)] at ok bad
      have i3 := dvSx_b (b := dvH tp sz (a + 2))
      have l3 := dvH_s (dvSx_nn b3)
      intro x5 e5 v58 e58
      rw [dv_or2 (by omega) (by omega) ⟨b3, by omega⟩] at e5
      refine ⟨by rw [va_up_self]; omega, by rw [e58]; exact dv_w8, fun ai61 e61 => ⟨by omega, fun n2 en2 => ?_⟩⟩
      rw [va_up_self, va_up_up] at e61
      have v2 : v58 = w8 (dvSx (dvH tp sz (a + 1)) % 16 * 16 + dvSx (dvH tp sz (a + 2)) / 4) := by rw [e58]; exact w8_m (by omega)
      generalize eY : dvSx (dvH tp sz (a + 1)) % 16 * 16 + dvSx (dvH tp sz (a + 2)) / 4 = B2 at *
      have h2 : ∀ k, 0 ≤ k → k < n + 2 → updI (updI g n v32) n1 v58 k = w8 (updI (updI row n B1) (n + 1) B2 k) := fun k k0 k1 => by
        rw [en1]
        by_cases e : k = n + 1
        · unfold updI; rw [if_pos e, if_pos e, v2]
        · have := h1 k k0 (by omega)
          rw [updI_n e, updI_n e]; exact this
      have en3 : n2 = n + 2 := by omega
      have m4 : x5 / 64 % 4 = dvSx (dvH tp sz (a + 2)) % 4 := by omega
      subst e61
      generalize updI (updI g n v32) n1 v58 = gg at *
      rw [en3, m4, show a + 2 + 1 = a + 3 by omega]
      have ill : ¬ (n + 2 < 20 ∨ dvSx (dvH tp sz (a + 2)) % 4 = 0) → wDV_X67_base_157 MC MS post px (wDV_X67_base_24 MC MS post px K270 p (some q1) (va_up kd q1 10) (va_up an q1 24) mX67_tape mX67_size mX67_wrong mX68_kind mX74_bytes sa so (f + 1)) p (some q1) (n + 2) x5 (some p) 0 (va_up kd q1 10) (va_up an q1 24) (va_up ai q1 gg) mX67_tape mX67_size (va_up mX67_at p (a + 3)) mX67_wrong mX67_place mX68_kind mX74_bytes sa so kc ks := fun w => by
        rw [if_pos w] at bad
        unfold wDV_X67_base_157
        rw [va_up_self, show a + 3 - 1 = a + 2 by omega]
        exact kOn_some ⟨(RR g).2.2.2, by omega, 0, 0, hk, CDV_need (RR gg) (fun q => absurd rfl q) (fun _ => bad (by show 0 ≤ a + 2; omega) _ _)⟩
      have good : (n + 2 < 20 ∨ dvSx (dvH tp sz (a + 2)) % 4 = 0) → wDV_X67_base_157 MC MS post px (wDV_X67_base_24 MC MS post px K270 p (some q1) (va_up kd q1 10) (va_up an q1 24) mX67_tape mX67_size mX67_wrong mX68_kind mX74_bytes sa so (f + 1)) p (some q1) (n + 2) x5 (some p) 1 (va_up kd q1 10) (va_up an q1 24) (va_up ai q1 gg) mX67_tape mX67_size (va_up mX67_at p (a + 3)) mX67_wrong mX67_place mX68_kind mX74_bytes sa so kc ks := fun w => by
        rw [if_neg (fun u => u w)] at ok bad
        unfold wDV_X67_base_157
        rw [va_up_self, m4]
        refine kOn_some ⟨(RR g).2.2.2, by omega, 0, 0, hk, CDV_need (RR gg) (fun _ => ⟨hk, CDV_here (RR gg) (A 3 (by decide) (by decide)) ⟨fun c5 => ?_, fun c5 => ?_⟩⟩) (fun q => absurd q (by decide))⟩
        · rw [if_pos c5] at ok bad
          have l4 := dvH_s (show ¬ dvH tp sz (a + 3) = -1 by rw [c5]; decide)
          refine ⟨fun m0 => ⟨0, 0, hk, CDV_need (RR gg) (fun _ => ⟨by omega, fun vv evv mm emm => ?_⟩) (fun q => absurd q (by decide))⟩, fun m0 => ⟨0, 0, hk, CDV_need (RR gg) (fun q => absurd rfl q) (fun _ => ?_)⟩⟩
          · rw [if_pos m0] at ok
            have := ok rfl (by show 0 ≤ n + 2 ∧ n + 2 ≤ 20; omega) gg h2
            rw [emm, evv, va_up_up, show a + 3 + 1 = a + 4 by omega, wDV_X67_base_24]
            exact ⟨fun _ => this, fun q => absurd rfl q⟩
          · rw [if_neg m0] at bad
            exact bad (by show 0 ≤ a + 3; omega) _ _
        · rw [if_neg c5] at ok bad
          refine ⟨fun l20 => ?_, fun l20 => ?_⟩
          · rw [if_pos l20] at bad
            unfold wDV_X67_base_225
            exact kOn_some ⟨(RR g).2.2.2, 0, 0, hk, CDV_need (RR gg) (fun q => absurd rfl q) (fun _ => by rw [va_up_self]; exact bad (by show 0 ≤ a + 3; omega) _ _)⟩
          · rw [if_neg l20] at ok bad
            unfold wDV_X67_base_225
            refine kOn_some ⟨(RR g).2.2.2, 0, 0, hk, CDV_need (RR gg) (fun _ => ⟨0, 0, hk, CDV_letter hT (RR gg) (A 3 (by decide) (by decide)) T ⟨fun b4 => ?_, fun b4 => ?_⟩⟩) (fun q => absurd q (by decide))⟩
            rotate_left
            · rw [if_pos b4] at bad
              exact bad (by show 0 ≤ a + 3; omega) _ _
            rw [if_neg (by omega)] at ok bad
            have i4 := dvSx_b (b := dvH tp sz (a + 3))
            have l4 := dvH_s (dvSx_nn b4)
            intro x6 e6 v103 e103
            rw [dv_or3 (by omega) (by omega) ⟨b4, by omega⟩] at e6
            refine kOn_some ⟨va_up_self _ _ _, by rw [va_up_self]; omega, by rw [e103]; exact dv_w8, fun ai108 e108 => ⟨by omega, fun n3 en4 => ?_⟩⟩
            rw [va_up_self, va_up_up] at e108
            subst e108
            have v3 : v103 = w8 (dvSx (dvH tp sz (a + 2)) % 4 * 64 + dvSx (dvH tp sz (a + 3))) := by rw [e103]; exact w8_m (by omega)
            generalize eZ : dvSx (dvH tp sz (a + 2)) % 4 * 64 + dvSx (dvH tp sz (a + 3)) = B3 at *
            have h3 : ∀ k, 0 ≤ k → k < n + 3 → updI gg (n + 2) v103 k = w8 (updI (updI (updI row n B1) (n + 1) B2) (n + 2) B3 k) := fun k k0 k1 => by
              by_cases e : k = n + 2
              · unfold updI; rw [if_pos e, if_pos e, v3]
              · have := h2 k k0 (by omega)
                rw [updI_n e, updI_n e]; exact this
            have g2 := G.2.2
            have G4 : dvG sz (a + 4) := ⟨by omega, by omega, g2⟩
            rw [R.2.1, va_up_self, show a + 3 + 1 = a + 4 by omega, show n3 = n + 3 by omega]
            exact ⟨fun z => CDV_b24 hT hk R T hq f (a + 4) (n + 3) 0 _ (updI gg (n + 2) v103) G4 (by omega) (by omega) ⟨fun _ => z, fun _ => rfl⟩ h3 ok bad, fun z => CDV_b24 hT hk R T hq f (a + 4) (n + 3) 1 _ (updI gg (n + 2) v103) G4 (by omega) (by omega) ⟨fun q => absurd q (by decide), fun q => absurd q z⟩ h3 ok bad⟩
      exact ⟨fun l => good (Or.inl l), fun l => ⟨fun m0 => good (Or.inr m0), fun m0 => ill (fun w => w.elim l m0)⟩⟩
    · rw [if_neg c3, if_pos b3] at bad
      exact bad (by show 0 ≤ a + 2; omega) _ _
theorem CDV_base {post : Option Nat → (Nat → Nat) → (Nat → Nat) → (Nat → Int → Int) → (Nat → Int) → (Nat → Int) → (Nat → Int) → (Nat → Option Nat) → Prop} {px : Nat → (Nat → Nat) → (Nat → Nat) → (Nat → Int → Int) → (Nat → Int) → (Nat → Int) → (Nat → Int) → (Nat → Option Nat) → Prop} (hT : dvT tp) (hM : 3 ≤ MC ∧ 50 ≤ MS) (R : dvR kd an ai mX67_tape mX67_size mX67_wrong sa p qt tp sz) (h : dvG sz 0) (T : txS so (sa 261) dvLL) (H : dvGH post px kd an ai mX67_at mX67_place mX68_kind mX74_bytes p 8 24 (dvBs tp sz 17 0 0 (fun _ => 0))) : wpDV_X67_base MC MS post px kd an ai mX67_tape mX67_size (va_up mX67_at p 0) mX67_wrong mX67_place mX68_kind mX74_bytes sa so p := by
  unfold wpDV_X67_base
  refine ⟨by omega, fun q1 hq ai2 e2 => ?_⟩
  subst e2
  rw [R.2.1, va_up_self]
  have s0 := h.2.2
  have fin : ∀ fl : Int, (fl = 0 ↔ sz ≤ 0) → wDV_X67_base_24 MC MS post px (fun (x2_168 : Int) (ai_169 : Nat → Int → Int) (mX67_at_170 : Nat → Int) (mX67_place_171 : Nat → Int) (kc_172 : Nat) (ks_173 : Nat) => (kc_172 + 1 ≤ MC ∧ ks_173 + 2 ≤ MS) ∧ (∀ q_174 : Nat, (va_up kd q1 10) q_174 = 0 → (∀ mX68_kind_175 : Nat → Int, mX68_kind_175 = va_up mX68_kind q_174 0 → (∀ mX74_bytes_176 : Nat → Option Nat, mX74_bytes_176 = va_up mX74_bytes q_174 none → ((∃ mc_182 ms_183 : Nat, ((kc_172 + 1) + mc_182 ≤ MC ∧ (ks_173 + 2) + ms_183 ≤ MS) ∧ wpDV_X67_row mc_182 ms_183 (fun (r_178 : Option Nat) (kd_179 : Nat → Nat) (an_180 : Nat → Nat) (ai_181 : Nat → Int → Int) => kLe (va_up (va_up kd q1 10) q_174 8) (va_up an q1 24) kd_179 an_180 → (((((kc_172 + 1) + mc_182) ≤ MC ∧ ((ks_173 + 2) + ms_183) ≤ MS) ∧ wpDV_X74_init (fun (mX68_kind_186 : Nat → Int) (mX74_bytes_187 : Nat → Option Nat) => ((((kc_172 + 1) + mc_182) ≤ MC ∧ ((ks_173 + 2) + ms_183) ≤ MS ∧ post (some q_174) kd_179 an_180 ai_181 mX67_at_170 mX67_place_171 mX68_kind_186 mX74_bytes_187))) mX68_kind_175 mX74_bytes_176 q_174 8 r_178))) (va_up (va_up kd q1 10) q_174 8) (va_up an q1 24) ai_169 (some q1) x2_168)))))) p (some q1) (va_up kd q1 10) (va_up an q1 24) mX67_tape mX67_size mX67_wrong mX68_kind mX74_bytes sa so 18 0 fl (va_up ai q1 (fun _ => 0)) (va_up mX67_at p 0) mX67_place (0 + 1) (0 + 24) := fun fl efl => by
    refine CDV_b24 (kc := 0 + 1) (ks := 0 + 24) hT (by omega) R T hq 17 0 0 fl (fun _ => 0) (fun _ => 0) h (by decide) (by omega) efl (fun k k0 k1 => by omega) (fun e1 hn g hg => ⟨by omega, fun q2 hq2 K eK B eB => ⟨1, 20, by omega, ?_⟩⟩) (fun e1 a' g => H.2 e1 a' q1 g hq)
    have ne : q1 ≠ q2 := fun e => by rw [← e, va_up_self] at hq2; exact absurd hq2 (by decide)
    have u1 : va_up (va_up kd q1 10) q2 8 q1 = 10 := (if_neg ne).trans (va_up_self _ _ _)
    refine CDV_row ⟨hn.1, by omega⟩ (by omega) u1 (by rw [va_up_self]; omega) (fun k k0 k1 => by rw [va_up_self, hg k k0 k1]; exact dv_w8) (fun q3 hq3 _ => ⟨by omega, ?_⟩)
    unfold wpDV_X74_init wpDV_X68_init
    intro K2 eK2 B2 eB2
    refine ⟨by omega, by omega, ?_⟩
    rw [eK2, eB2, eK, eB, va_up_up, va_up_up, va_up_self]
    exact H.1 e1 hn q1 q2 q3 g hq hq2 hq3 hg
  exact ⟨fun z => ⟨18, fin 0 ⟨fun _ => z, fun _ => rfl⟩⟩, fun z => ⟨18, fin 1 ⟨fun q => absurd q (by decide), fun q => absurd q z⟩⟩⟩
end

/-! DatatypeValues, the component: the writer -/
def dvWz (kd an : Nat → Nat) (mB : Nat → Option Nat) (w qw : Nat) : Prop := mB w = some qw ∧ kd qw = 10 ∧ an qw = 80 ∧ kd w = 2
theorem dvPo_u {o : Int → Int} {L : List Int} {b : Int} : updI (dvPo o L) (L.length : Nat) b = dvPo o (L ++ [b]) := by
  have e1 : ((L ++ [b]).length : Int) = L.length + 1 := dvL1
  refine funext fun i => ?_
  unfold updI dvPo
  rw [e1]
  by_cases w : i = (L.length : Int)
  · rw [if_pos w, if_pos (by omega), w, show ((L.length : Nat) : Int).toNat = L.length by omega, List.getD_eq_getElem?_getD, List.getElem?_append_right (Nat.le_refl _), Nat.sub_self]; rfl
  · rw [if_neg w]
    by_cases w2 : 0 ≤ i ∧ i < (L.length : Int)
    · rw [if_pos w2, if_pos (by omega), List.getD_eq_getElem?_getD, List.getD_eq_getElem?_getD, List.getElem?_append_left (by omega)]
    · rw [if_neg w2, if_neg (by omega)]
section
variable {kd : Nat → Nat} {an : Nat → Nat} {ai : Nat → Int → Int} {al : Nat → Int → Int} {ar : Nat → Int → Option Nat} {mX6_tape : Nat → Option Nat} {mX6_size : Nat → Int} {mX6_values : Nat → Option Nat} {mX6_count : Nat → Int} {mX6_writer : Nat → Option Nat} {mX7_bytes : Nat → Option Nat} {mX7_size : Nat → Int} {mX67_tape : Nat → Option Nat} {mX67_size : Nat → Int} {mX67_at : Nat → Int} {mX67_wrong : Nat → Option Nat} {mX67_place : Nat → Int} {mX68_kind : Nat → Int} {mX69_upper : Nat → Int} {mX69_lower : Nat → Int} {mX70_is : Nat → Int} {mX72_millis : Nat → Int} {mX72_zone : Nat → Int} {mX73_months : Nat → Int} {mX73_millis : Nat → Int} {mX74_bytes : Nat → Option Nat} {sa : Nat → Nat} {so : kSo} {wr qw s : Nat} {o : Int → Int} {L : List Int} {b v x y c least : Int} {m : Nat} {post : (Nat → Int → Int) → (Nat → Int) → Prop}
theorem CDV_add (W : dvWz kd an mX7_bytes wr qw) (hb : -128 ≤ b ∧ b < 128) (hl : (L.length : Int) < 80) (hp : post (va_up ai qw (dvPo o (L ++ [b]))) (va_up mX7_size wr ((L ++ [b]).length : Nat))) : wpDV_X7_add post kd an (va_up ai qw (dvPo o L)) mX7_bytes (va_up mX7_size wr ((L.length : Nat) : Int)) wr b := by
  unfold wpDV_X7_add
  intro v ev
  rw [w8_id hb] at ev
  refine kOn_of W.1 ⟨W.2.1, by rw [va_up_self, W.2.2.1]; omega, by omega, fun A eA => ⟨by rw [va_up_self]; omega, fun s es M eM => ?_⟩⟩
  rw [va_up_self, va_up_self, va_up_up, ev, dvPo_u] at eA
  rw [va_up_self] at es
  rw [va_up_up, es, show ((L.length : Nat) : Int) + 1 = ((L ++ [b]).length : Nat) from dvL1.symm] at eM
  rw [eA, eM]; exact hp
theorem CDV_w24 {K : Int → Prop} (h0 : 0 ≤ v) (hv : v < 10 ^ m) (hl : least ≤ m) (hm : m ≤ 15) : ∀ (f n : Nat), 1 ≤ n → n ≤ m → m ≤ n + f → K (10 ^ (dvNk v least f n - 1)) → wDV_X7_number_24 K least v (f + 1) (n : Nat) (10 ^ (n - 1)) := fun f => by
  have step : ∀ (f n : Nat), 1 ≤ n → n ≤ m → (10 ≤ v / 10 ^ (n - 1) ∨ (n : Int) < least → wDV_X7_number_24 K least v f ((n + 1 : Nat) : Int) (10 ^ (n + 1 - 1))) → (¬ (10 ≤ v / 10 ^ (n - 1) ∨ (n : Int) < least) → K (10 ^ (n - 1))) → wDV_X7_number_24 K least v (f + 1) (n : Nat) (10 ^ (n - 1)) := fun f n n1 nm h1 h2 => by
    rw [wDV_X7_number_24]
    have p0 := dv10_p (n - 1)
    have p1 := dv10_16 (n := n - 1) (by omega)
    have vb := dv10_16 (n := m) (by omega)
    have e10 : (10 : Int) ^ (n - 1) * 10 = 10 ^ (n + 1 - 1) := by rw [Int.mul_comm, ← dv10_s, show n - 1 + 1 = n by omega, Nat.add_sub_cancel]
    have q0 : 0 ≤ v / 10 ^ (n - 1) := Int.ediv_nonneg h0 (by omega)
    have q1 : v / 10 ^ (n - 1) ≤ v := Int.ediv_le_self _ h0
    have td : Int.tdiv v (10 ^ (n - 1)) = v / 10 ^ (n - 1) := Int.tdiv_eq_ediv_of_nonneg h0
    dsimp only
    rw [td]
    have en : ((n + 1 : Nat) : Int) = (n : Int) + 1 := by omega
    refine ⟨by omega, by omega, fun q => ⟨by omega, fun u eu => ⟨by omega, fun n2 e2 => ?_⟩⟩, fun q => ⟨fun q2 => h2 (by omega), fun q2 => ⟨by omega, fun u eu => ⟨by omega, fun n2 e2 => ?_⟩⟩⟩⟩
    · rw [eu, e2, e10, ← en]; exact h1 (Or.inl (by omega))
    · rw [eu, e2, e10, ← en]; exact h1 (Or.inr (by omega))
  induction f with
  | zero =>
    intro n n1 nm nf hk
    exact step 0 n n1 nm (fun w => absurd (dvNk_1 h0 hv hl n1 nm w) (by omega)) (fun _ => hk)
  | succ f ih =>
    intro n n1 nm nf hk
    rw [dvNk] at hk
    refine step (f + 1) n n1 nm (fun w => ?_) (fun w => ?_)
    · have l := dvNk_1 h0 hv hl n1 nm w
      rw [if_pos w] at hk
      exact ih (n + 1) (by omega) (by omega) (by omega) hk
    · rw [if_neg w] at hk; exact hk
theorem CDV_w56 {K : (Nat → Int → Int) → (Nat → Int) → Prop} (W : dvWz kd an mX7_bytes wr qw) (h0 : 0 ≤ v) (hv : v < 10000000000000000) : ∀ (j : Nat) (u : Int) (L : List Int), j ≤ 16 → u = (if j = 0 then 0 else 10 ^ (j - 1)) → (L.length : Int) + j ≤ 80 → K (va_up ai qw (dvPo o (L ++ dvNd v j))) (va_up mX7_size wr ((L ++ dvNd v j).length : Nat)) → wDV_X7_number_56 K wr v kd an mX7_bytes (j + 1) u (va_up ai qw (dvPo o L)) (va_up mX7_size wr ((L.length : Nat) : Int))
  | 0, u, L, hj, eu, hl, h => by
    rw [wDV_X7_number_56]
    have e : L ++ dvNd v 0 = L := List.append_nil L
    rw [e] at h
    rw [if_pos rfl] at eu
    exact ⟨fun _ => h, fun q => absurd (by omega) q⟩
  | j + 1, u, L, hj, eu, hl, h => by
    rw [wDV_X7_number_56]
    rw [if_neg (by omega), Nat.add_sub_cancel] at eu
    have p0 := dv10_p j
    have p1 := dv10_16 (n := j) (by omega)
    have q0 : 0 ≤ v / 10 ^ j := Int.ediv_nonneg h0 (by omega)
    have q1 : v / 10 ^ j ≤ v := Int.ediv_le_self _ h0
    subst eu
    have td : Int.tdiv v (10 ^ j) = v / 10 ^ j := Int.tdiv_eq_ediv_of_nonneg h0
    rw [td]
    refine ⟨fun q => by omega, fun q => ⟨by omega, by omega, q0, by omega, CDV_add W (by omega) (by omega) ⟨by omega, fun u2 e2 => ?_⟩⟩⟩
    refine CDV_w56 W h0 hv j u2 (L ++ [48 + v / 10 ^ j % 10]) (by omega) ?_ (by rw [dvL1]; omega) (by rw [List.append_assoc]; exact h)
    rw [e2]
    cases j with
    | zero => rfl
    | succ i => rw [if_neg (by omega), dv10_s, Nat.add_sub_cancel]; omega
theorem CDV_wnum (m : Nat) (W : dvWz kd an mX7_bytes wr qw) (hv : -10 ^ m < v ∧ v < 10 ^ m) (hl : least ≤ m) (hm : 1 ≤ m ∧ m ≤ 15) (hs : (L.length : Int) + m < 80) (hp : post (va_up ai qw (dvPo o (dvNm L v least))) (va_up mX7_size wr ((dvNm L v least).length : Nat))) : wpDV_X7_number post kd an (va_up ai qw (dvPo o L)) mX7_bytes (va_up mX7_size wr ((L.length : Nat) : Int)) wr v least := by
  have h0 : 0 ≤ dvAb v := by unfold dvAb; split <;> omega
  have h1 : dvAb v < 10 ^ m := by unfold dvAb; split <;> omega
  have vb := dv10_16 (n := m) (by omega)
  have nb := dvNk_b h0 h1 hl 20 1 (Nat.le_refl 1) hm.1
  have ab : (if 0 < v then v else -v) = dvAb v := by unfold dvAb; split <;> split <;> omega
  have go : ∀ L : List Int, (L.length : Int) + m ≤ 80 → post (va_up ai qw (dvPo o (L ++ dvNd (dvAb v) (dvNk (dvAb v) least 20 1)))) (va_up mX7_size wr ((L ++ dvNd (dvAb v) (dvNk (dvAb v) least 20 1)).length : Nat)) → ∃ fu : Nat, wDV_X7_number_24 (fun (x7_22 : Int) => (∃ fu : Nat, wDV_X7_number_56 (fun (ai_39 : Nat → Int → Int) (mX7_size_40 : Nat → Int) => (post ai_39 mX7_size_40)) wr (dvAb v) kd an mX7_bytes fu x7_22 (va_up ai qw (dvPo o L)) (va_up mX7_size wr ((L.length : Nat) : Int)))) least (dvAb v) fu 1 1 := fun L hs hp => by
    refine ⟨21, CDV_w24 h0 h1 hl hm.2 20 1 (Nat.le_refl 1) hm.1 (by omega) ⟨dvNk (dvAb v) least 20 1 + 1, ?_⟩⟩
    exact CDV_w56 W h0 (by omega) _ _ L (by omega) (by rw [if_neg (by omega)]) (by omega) hp
  unfold dvNm at hp
  unfold wpDV_X7_number
  refine ⟨fun q => ⟨by omega, fun a ea => ?_⟩, fun q => CDV_add W (by decide) (by omega) ⟨by omega, fun a ea => ?_⟩⟩
  · rw [if_pos q] at hp
    rw [ea, ab]; exact go L (by omega) hp
  · rw [if_neg q] at hp
    rw [ea, ab]; exact go (L ++ [45]) (by rw [dvL1]; omega) hp
theorem CDV_wfrac (W : dvWz kd an mX7_bytes wr qw) (hv : 0 ≤ v ∧ v < 1000) (hs : (L.length : Int) + 5 < 80) (hp : post (va_up ai qw (dvPo o (dvMs L v))) (va_up mX7_size wr ((dvMs L v).length : Nat))) : wpDV_X7_fraction post kd an (va_up ai qw (dvPo o L)) mX7_bytes (va_up mX7_size wr ((L.length : Nat) : Int)) wr v := by
  unfold dvMs at hp
  unfold wpDV_X7_fraction
  refine ⟨fun q => ?_, fun q => CDV_add W (by decide) (by omega) (CDV_wnum 3 W (by omega) (by decide) (by decide) (by rw [dvL1]; omega) ?_)⟩
  · rw [if_pos q] at hp; exact hp
  · rw [if_neg q] at hp; exact hp
theorem CDV_wsome (m : Nat) (W : dvWz kd an mX7_bytes wr qw) (hv : -10 ^ m < v ∧ v < 10 ^ m) (hm : 1 ≤ m ∧ m ≤ 15) (hb : -128 ≤ b ∧ b < 128) (hs : (L.length : Int) + m + 1 < 80) (hp : post (va_up ai qw (dvPo o (dvSo L v b))) (va_up mX7_size wr ((dvSo L v b).length : Nat))) : wpDV_X7_some post kd an (va_up ai qw (dvPo o L)) mX7_bytes (va_up mX7_size wr ((L.length : Nat) : Int)) wr v b := by
  unfold dvSo at hp
  unfold wpDV_X7_some
  have := dvNm_l (L := L) (v := v) (least := 1) m hv (by omega) hm.1
  refine ⟨fun q => ?_, fun q => CDV_wnum m W hv (by omega) hm (by omega) (CDV_add W hb (by omega) ?_)⟩
  · rw [if_pos q] at hp; exact hp
  · rw [if_neg q] at hp; exact hp
theorem CDV_wclock (W : dvWz kd an mX7_bytes wr qw) (hr : 0 ≤ v ∧ v < 86400000) (hs : (L.length : Int) ≤ 40) (hp : post (va_up ai qw (dvPo o (dvTc L v))) (va_up mX7_size wr ((dvTc L v).length : Nat))) : wpDV_X7_clock post kd an (va_up ai qw (dvPo o L)) mX7_bytes (va_up mX7_size wr ((L.length : Nat) : Int)) wr v := by
  unfold dvTc at hp
  unfold wpDV_X7_clock
  have b1 := dvL1 (L := L) (b := 84)
  have b2 := dvNm_l (L := L ++ [84]) (v := v / 3600000) (least := 2) 2 (by omega) (by decide) (by decide)
  have b3 := dvL1 (L := dvNm (L ++ [84]) (v / 3600000) 2) (b := 58)
  have b4 := dvNm_l (L := dvNm (L ++ [84]) (v / 3600000) 2 ++ [58]) (v := v / 60000 % 60) (least := 2) 2 (by omega) (by decide) (by decide)
  have b5 := dvL1 (L := dvNm (dvNm (L ++ [84]) (v / 3600000) 2 ++ [58]) (v / 60000 % 60) 2) (b := 58)
  have b6 := dvNm_l (L := dvNm (dvNm (L ++ [84]) (v / 3600000) 2 ++ [58]) (v / 60000 % 60) 2 ++ [58]) (v := v / 1000 % 60) (least := 2) 2 (by omega) (by decide) (by decide)
  exact CDV_add W (by decide) (by omega) ⟨hr.1, CDV_wnum 2 W (by omega) (by decide) (by decide) (by omega) (CDV_add W (by decide) (by omega) ⟨by omega, CDV_wnum 2 W (by omega) (by decide) (by decide) (by omega) (CDV_add W (by decide) (by omega) ⟨by omega, CDV_wnum 2 W (by omega) (by decide) (by decide) (by omega) (CDV_wfrac W (by omega) (by omega) hp)⟩)⟩)⟩
end
