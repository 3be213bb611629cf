/-! ProofChecker (room PC): letters -/
/-- the String a is the text L -/
def txS (so : kSo) (a : Nat) (L : List Int) : Prop := so.k a = 1 ∧ so.k (so.v a) = 2 ∧ so.n (so.v a) = L.length ∧ ∀ i : Nat, i < L.length → zTab (so.c (so.v a)) (i : Int) = L.getD i 0 ∧ (0 ≤ L.getD i 0 ∧ L.getD i 0 < 128)
/-- a pattern's letters up to i, with two numbers in it -/
def pcWn (P : List Int) (a b : Int) : Nat → List Int
  | 0 => []
  | i + 1 => pcWn P a b i ++ (if P.getD i 0 = 65 then pcNu a else if P.getD i 0 = 66 then pcNu b else [P.getD i 0])
theorem pcWn_l {P : List Int} {a b : Int} : ∀ i : Nat, (pcWn P a b i).length ≤ 3 * i
  | 0 => by unfold pcWn; simp
  | i + 1 => by
    have := pcWn_l (P := P) (a := a) (b := b) i
    have la := pcNu_l a
    have lb := pcNu_l b
    unfold pcWn
    rw [List.length_append]
    split <;> (try split) <;> simp <;> omega
theorem pcWn_m {P : List Int} {a b : Int} : ∀ (d i : Nat), (pcWn P a b i).length ≤ (pcWn P a b (i + d)).length
  | 0, i => Nat.le_refl _
  | d + 1, i => by
    have := pcWn_m (P := P) (a := a) (b := b) d i
    have e : pcWn P a b (i + (d + 1)) = pcWn P a b (i + d) ++ (if P.getD (i + d) 0 = 65 then pcNu a else if P.getD (i + d) 0 = 66 then pcNu b else [P.getD (i + d) 0]) := rfl
    rw [e, List.length_append]; omega
section
variable {kd : Nat → Nat} {an : Nat → Nat} {ai : Nat → Int → Int} {al : Nat → Int → Int} {ar : Nat → Int → Option Nat} {mX8_rules : Nat → Option Nat} {mX8_axioms : Nat → Option Nat} {mX8_axiomCount : Nat → Int} {mX8_givens : Nat → Option Nat} {mX8_givenCount : Nat → Int} {mX8_wanted : Nat → Option Nat} {mX8_rows : Nat → Option Nat} {mX8_rowCount : Nat → Int} {mX8_looked : Nat → Int} {mX8_from : Nat → Option Nat} {mX8_needed : Nat → Option Nat} {mX8_broken : Nat → Int} {mX8_places : Nat → Option Nat} {mX8_text : Nat → Option Nat} {mX8_size : Nat → Int} {mX9_kind : Nat → Int} {mX9_a : Nat → Int} {mX9_b : Nat → Int} {mX9_c : Nat → Int} {mX26_rule : Nat → Int} {mX26_instance : Nat → Int} {mX26_premises : Nat → Option Nat} {mX26_count : Nat → Int} {mX26_states : Nat → Option Nat} {mX26_right : Nat → Int} {mX26_size : Nat → Int} {mX10_takes : Nat → Int} {mX10_name : Nat → Option Nat} {mX12_any : Nat → Int} {mX14_kind : Nat → Int} {mX16_kind : Nat → Int} {mX18_first : Nat → Int} {mX19_either : Nat → Int} {sa : Nat → Nat} {so : kSo} {A : Nat → Int → Nat} {gi : Nat → Nat × Int} {Ro : Int → Nat} {s : Int} {t : Int → Int} {L L0 : List Int} {a : Nat}
theorem CPC_len {post : Int → Prop} (T : txS so a L) (hp : post L.length) : wpPC_J16_length post so a := by
  unfold wpPC_J16_length wpPC_J16_coder
  refine ⟨by decide, ?_⟩
  rw [T.2.2.1, show (2 : Int) ^ (0 : Int).toNat = 1 from rfl, Int.ediv_one]
  exact hp
theorem CPC_chr {post : Int → Prop} {i : Int} (T : txS so a L) (hi : 0 ≤ i ∧ i < L.length) (hp : post (L.getD i.toNat 0)) : wpPC_J16_charAt post sa so a i := by
  obtain ⟨t1, t2, t3, t4⟩ := T
  obtain ⟨e, b⟩ := t4 i.toNat (by omega)
  rw [show ((i.toNat : Nat) : Int) = i by omega] at e
  unfold wpPC_J16_charAt wpPC_J16_isLatin1 wpPC_J17_charAt wpPC_J16_checkIndex wpPC_J15_checkIndex
  refine ⟨fun _ => ⟨fun q => absurd q (by decide), fun _ => kOn_some ⟨t2, fun z => by omega, fun z => ⟨fun z2 => ?_, fun z2 => z2 (by rw [t3]; omega)⟩⟩⟩, fun q => absurd rfl q⟩
  rw [t3, e]
  have e2 : L.getD i.toNat 0 % 256 % 65536 = L.getD i.toNat 0 := by omega
  rw [e2]
  exact ⟨by omega, by omega, by omega, hp⟩
theorem CPC_say {post : (Nat → Int → Int) → (Nat → Int) → Prop} (H : pcSh kd an ai al ar mX8_rules mX8_axioms mX8_axiomCount mX8_givens mX8_givenCount mX8_wanted mX8_rows mX8_rowCount mX8_looked mX8_from mX8_needed mX8_broken mX8_places mX8_text mX8_size mX9_kind mX9_a mX9_b mX9_c mX26_rule mX26_instance mX26_premises mX26_count mX26_states mX26_right mX26_size mX10_takes mX10_name mX12_any mX14_kind mX16_kind mX18_first mX19_either A gi Ro) (T : txS so a L) (B : txB t s L0) (hl : L0.length + L.length ≤ 200) (hp : ∀ t' s', txB t' s' (L0 ++ L) → post (va_up ai (A 15 0) t') (va_up mX8_size (A 0 0) s')) : wpPC_X8_say post kd an (va_up ai (A 15 0) t) mX8_text (va_up mX8_size (A 0 0) s) sa so (A 0 0) (some a) := by
  obtain ⟨s1, s2, -⟩ := id H
  unfold wpPC_X8_say
  refine wl3 (fun m i u v => wPC_X8_say_2 _ (A 0 0) (some a) kd an mX8_text sa so m i u v) (fun i u v => (0 ≤ i ∧ i ≤ L.length) ∧ ∃ t' s', u = va_up ai (A 15 0) t' ∧ v = va_up mX8_size (A 0 0) s' ∧ txB t' s' (L0 ++ L.take i.toNat)) (fun i u v => (L.length - i).toNat) ?_ 0 _ _ ⟨by omega, t, s, rfl, rfl, by simpa using B⟩
  rintro i u v ⟨hi, t', s', rfl, rfl, B'⟩ m ih
  rw [wPC_X8_say_2]
  refine kOn_some ⟨T.1, CPC_len T ⟨fun z => ?_, fun z => CPC_chr T ⟨hi.1, by omega⟩ ?_⟩⟩
  · refine hp _ _ ?_
    have : i.toNat = L.length := by omega
    rw [this, List.take_length] at B'
    exact B'
  · obtain ⟨-, b⟩ := T.2.2.2 i.toNat (by omega)
    have sl : s' = ((L0 ++ L.take i.toNat).length : Nat) := B'.1
    rw [List.length_append, List.length_take] at sl
    intro v9 e9
    rw [w8_id (by omega)] at e9
    refine kOn_of s2.2.2.2.2.2.2.2.2 ⟨H.k 15 0 (by decide) z01, ?_⟩
    rw [va_up_self, va_up_self, va_up_up, H.l 15 0 (by decide) z01 (by decide)]
    refine ⟨by show 0 ≤ s' ∧ s' < (200 : Int); omega, by omega, fun _ e14 => ⟨by omega, fun v18 e18 _ e19 => ⟨by omega, fun _ e20 => ?_⟩⟩⟩
    rw [e14, e19, e18, e20, va_up_up]
    refine ih _ _ _ ⟨by omega, _, _, rfl, rfl, ?_⟩ (by omega)
    have q := txB_one (v := v9) B'
    rw [show (i + 1).toNat = i.toNat + 1 by omega, List.take_succ, List.getElem?_eq_getElem (show i.toNat < L.length by omega)]
    have e : L[i.toNat]'(by omega) = v9 := by
      rw [e9, List.getD_eq_getElem?_getD, List.getElem?_eq_getElem (show i.toNat < L.length by omega)]; rfl
    rw [List.append_assoc] at q
    rw [e]
    exact q
theorem CPC_dg {K : (Nat → Int → Int) → (Nat → Int) → Prop} {v x : Int} {m : Nat} (H : pcSh kd an ai al ar mX8_rules mX8_axioms mX8_axiomCount mX8_givens mX8_givenCount mX8_wanted mX8_rows mX8_rowCount mX8_looked mX8_from mX8_needed mX8_broken mX8_places mX8_text mX8_size mX9_kind mX9_a mX9_b mX9_c mX26_rule mX26_instance mX26_premises mX26_count mX26_states mX26_right mX26_size mX10_takes mX10_name mX12_any mX14_kind mX16_kind mX18_first mX19_either A gi Ro) (hx : 0 < x) (hv : 0 ≤ v ∧ v < 1000) (hz : v / x ≤ v) (h0 : 0 ≤ v / x) (hs : 0 ≤ s ∧ s < 200) (hp : wPC_X8_sayNumber_20 K (A 0 0) v kd an mX8_text m (x / 10) (va_up ai (A 15 0) (updI t s (48 + v / x % 10))) (va_up mX8_size (A 0 0) (s + 1))) : wPC_X8_sayNumber_20 K (A 0 0) v kd an mX8_text (m + 1) x (va_up ai (A 15 0) t) (va_up mX8_size (A 0 0) s) := by
  obtain ⟨s1, s2, -⟩ := id H
  rw [wPC_X8_sayNumber_20]
  dsimp only
  rw [Int.tdiv_eq_ediv_of_nonneg hv.1]
  refine ⟨fun z => by omega, fun z => ⟨by omega, by omega, h0, fun v18 e18 => kOn_of s2.2.2.2.2.2.2.2.2 ⟨H.k 15 0 (by decide) z01, ?_⟩⟩⟩
  rw [w8_id (by omega)] at e18
  rw [va_up_self, va_up_self, va_up_up, H.l 15 0 (by decide) z01 (by decide)]
  refine ⟨by show 0 ≤ s ∧ s < (200 : Int); omega, by omega, fun _ e23 => ⟨by omega, fun v27 e27 _ e28 => ⟨by omega, fun _ e31 => ?_⟩⟩⟩
  rw [e23, e28, e27, e31, e18, va_up_up]
  exact hp
theorem CPC_num {post : (Nat → Int → Int) → (Nat → Int) → Prop} {v : Int} (H : pcSh kd an ai al ar mX8_rules mX8_axioms mX8_axiomCount mX8_givens mX8_givenCount mX8_wanted mX8_rows mX8_rowCount mX8_looked mX8_from mX8_needed mX8_broken mX8_places mX8_text mX8_size mX9_kind mX9_a mX9_b mX9_c mX26_rule mX26_instance mX26_premises mX26_count mX26_states mX26_right mX26_size mX10_takes mX10_name mX12_any mX14_kind mX16_kind mX18_first mX19_either A gi Ro) (hv : 0 ≤ v ∧ v < 1000) (B : txB t s L0) (hl : L0.length + 3 ≤ 200) (hp : ∀ t' s', txB t' s' (L0 ++ pcNu v) → post (va_up ai (A 15 0) t') (va_up mX8_size (A 0 0) s')) : wpPC_X8_sayNumber post kd an (va_up ai (A 15 0) t) mX8_text (va_up mX8_size (A 0 0) s) (A 0 0) v := by
  have sl : s = (L0.length : Nat) := B.1
  unfold pcNu at hp
  unfold wpPC_X8_sayNumber
  refine ⟨3, ?_⟩
  rw [wPC_X8_sayNumber_2]
  dsimp only
  rw [Int.tdiv_eq_ediv_of_nonneg hv.1]
  refine ⟨by decide, by omega, fun z => ?_, fun z => ⟨by decide, fun x2 e2 => ?_⟩⟩
  · rw [if_pos (by omega)] at hp
    refine ⟨2, CPC_dg H (by decide) hv (by omega) (by omega) (by omega) ?_⟩
    rw [wPC_X8_sayNumber_20]
    refine ⟨fun _ => hp _ _ ?_, fun q => absurd (by decide) q⟩
    have q := txB_one (v := 48 + v) B
    rw [show v / 1 % 10 = v by omega]
    exact q
  · rw [show (1 : Int) * 10 = 10 from rfl] at e2
    subst e2
    rw [wPC_X8_sayNumber_2]
    dsimp only
    rw [Int.tdiv_eq_ediv_of_nonneg hv.1]
    refine ⟨by decide, by omega, fun z2 => ?_, fun z2 => ⟨by decide, fun x2 e2 => ?_⟩⟩
    · rw [if_neg (by omega), if_pos (by omega)] at hp
      refine ⟨3, CPC_dg H (by decide) hv (by omega) (by omega) (by omega) (CPC_dg H (by decide) hv (by omega) (by omega) (by omega) ?_)⟩
      rw [wPC_X8_sayNumber_20]
      refine ⟨fun _ => hp _ _ ?_, fun q => absurd (by decide) q⟩
      have q := txB_one (v := 48 + v % 10) (txB_one (v := 48 + v / 10) B)
      rw [List.append_assoc] at q
      rw [show v / 10 % 10 = v / 10 by omega, show v / (10 / 10) % 10 = v % 10 by omega]
      exact q
    · rw [show (10 : Int) * 10 = 100 from rfl] at e2
      subst e2
      rw [wPC_X8_sayNumber_2]
      dsimp only
      rw [Int.tdiv_eq_ediv_of_nonneg hv.1]
      refine ⟨by decide, by omega, fun z3 => ?_, fun z3 => by omega⟩
      rw [if_neg (by omega), if_neg (by omega)] at hp
      refine ⟨4, CPC_dg H (by decide) hv (by omega) (by omega) (by omega) (CPC_dg H (by decide) hv (by omega) (by omega) (by omega) (CPC_dg H (by decide) hv (by omega) (by omega) (by omega) ?_))⟩
      rw [wPC_X8_sayNumber_20]
      refine ⟨fun _ => hp _ _ ?_, fun q => absurd (by decide) q⟩
      have q := txB_one (v := 48 + v % 10) (txB_one (v := 48 + v / 10 % 10) (txB_one (v := 48 + v / 100) B))
      rw [List.append_assoc, List.append_assoc] at q
      rw [show v / 100 % 10 = v / 100 by omega, show v / (100 / 10) % 10 = v / 10 % 10 by omega, show v / (100 / 10 / 10) % 10 = v % 10 by omega]
      exact q
theorem CPC_with {post : (Nat → Int → Int) → (Nat → Int) → Prop} {x y : Int} (H : pcSh kd an ai al ar mX8_rules mX8_axioms mX8_axiomCount mX8_givens mX8_givenCount mX8_wanted mX8_rows mX8_rowCount mX8_looked mX8_from mX8_needed mX8_broken mX8_places mX8_text mX8_size mX9_kind mX9_a mX9_b mX9_c mX26_rule mX26_instance mX26_premises mX26_count mX26_states mX26_right mX26_size mX10_takes mX10_name mX12_any mX14_kind mX16_kind mX18_first mX19_either A gi Ro) (hx : 0 ≤ x ∧ x < 1000) (hy : 0 ≤ y ∧ y < 1000) (T : txS so a L) (hL : L.length ≤ 200) (B : txB t s L0) (hl : L0.length + (pcWn L x y L.length).length + 3 ≤ 200) (hp : ∀ t' s', txB t' s' (L0 ++ pcWn L x y L.length) → post (va_up ai (A 15 0) t') (va_up mX8_size (A 0 0) s')) : wpPC_X8_sayWith post kd an (va_up ai (A 15 0) t) mX8_text (va_up mX8_size (A 0 0) s) sa so (A 0 0) (some a) x y := by
  obtain ⟨s1, s2, -⟩ := id H
  unfold wpPC_X8_sayWith
  refine wl3 (fun m i u v => wPC_X8_sayWith_3 _ (A 0 0) (some a) x y kd an mX8_text sa so m i u v) (fun i u v => (0 ≤ i ∧ i ≤ L.length) ∧ ∃ t' s', u = va_up ai (A 15 0) t' ∧ v = va_up mX8_size (A 0 0) s' ∧ txB t' s' (L0 ++ pcWn L x y i.toNat)) (fun i u v => (L.length - i).toNat) ?_ 0 _ _ ⟨by omega, t, s, rfl, rfl, by simpa [pcWn] using B⟩
  rintro i u v ⟨hi, t', s', rfl, rfl, B'⟩ m ih
  rw [wPC_X8_sayWith_3]
  refine kOn_some ⟨T.1, CPC_len T ⟨fun z => ?_, fun z => CPC_chr T ⟨hi.1, by omega⟩ ?_⟩⟩
  · refine hp _ _ ?_
    have : i.toNat = L.length := by omega
    rw [this] at B'
    exact B'
  · obtain ⟨-, b⟩ := T.2.2.2 i.toNat (by omega)
    have ml := pcWn_m (P := L) (a := x) (b := y) (L.length - i.toNat) i.toNat
    rw [show i.toNat + (L.length - i.toNat) = L.length by omega] at ml
    have sl : s' = ((L0 ++ pcWn L x y i.toNat).length : Nat) := B'.1
    rw [List.length_append] at sl
    have bl : (L0 ++ pcWn L x y i.toNat).length + 3 ≤ 200 := by rw [List.length_append]; omega
    have stp : ∀ t2 s2, txB t2 s2 ((L0 ++ pcWn L x y i.toNat) ++ (if L.getD i.toNat 0 = 65 then pcNu x else if L.getD i.toNat 0 = 66 then pcNu y else [L.getD i.toNat 0])) → txB t2 s2 (L0 ++ pcWn L x y (i + 1).toNat) := fun t2 s2 w => by
      rw [show (i + 1).toNat = i.toNat + 1 by omega, pcWn, ← List.append_assoc]; exact w
    refine ⟨fun e65 => ?_, fun e65 => ⟨fun e66 => ?_, fun e66 v11 e11 => ?_⟩⟩
    · rw [if_pos e65] at stp
      refine CPC_num H hx B' bl (fun t2 s2 B2 => ⟨by omega, fun _ e1 => ?_⟩)
      rw [e1]
      exact ih _ _ _ ⟨by omega, _, _, rfl, rfl, stp _ _ B2⟩ (by omega)
    · rw [if_neg e65, if_pos e66] at stp
      refine CPC_num H hy B' bl (fun t2 s2 B2 => ⟨by omega, fun _ e1 => ?_⟩)
      rw [e1]
      exact ih _ _ _ ⟨by omega, _, _, rfl, rfl, stp _ _ B2⟩ (by omega)
    · rw [if_neg e65, if_neg e66] at stp
      rw [w8_id (by omega)] at e11
      refine kOn_of s2.2.2.2.2.2.2.2.2 ⟨H.k 15 0 (by decide) z01, ?_⟩
      rw [va_up_self, va_up_self, va_up_up, H.l 15 0 (by decide) z01 (by decide)]
      refine ⟨by show 0 ≤ s' ∧ s' < (200 : Int); omega, by omega, fun _ e14 => ⟨by omega, fun v18 e18 _ e19 => ⟨by omega, fun _ e20 => ?_⟩⟩⟩
      rw [e14, e19, e18, e20, va_up_up]
      refine ih _ _ _ ⟨by omega, _, _, rfl, rfl, stp _ _ ?_⟩ (by omega)
      rw [← e11]
      exact txB_one B'
end
