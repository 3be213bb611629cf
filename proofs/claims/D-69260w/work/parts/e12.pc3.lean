/-! ProofChecker (room PC): its shape; all rows up to one are looked at -/
/-- labels: 0 this, 1 rules, 3 axioms, 4 an axiom, 5 givens, 6 a given, 7 wanted, 8 rows, 9 a row, 10 its premises, 11 what it states, 12 from, 13 needed, 14 places, 15 text -/
def pK : Nat → Nat
  | 0 => 1 | 1 => 21 | 3 => 22 | 4 => 2 | 5 => 22 | 6 => 2 | 7 => 2 | 8 => 23 | 9 => 3 | 10 => 18 | 11 => 2 | 12 => 22 | 13 => 19 | 14 => 18 | 15 => 20 | _ => 99
def pL : Nat → Nat
  | 1 => 18 | 3 => 100 | 5 => 100 | 8 => 301 | 10 => 3 | 12 => 3 | 13 => 301 | 14 => 301 | 15 => 200 | _ => 0
def pN : Nat → Int
  | 0 => 1 | 1 => 1 | 3 => 1 | 4 => 100 | 5 => 1 | 6 => 100 | 7 => 1 | 8 => 1 | 9 => 301 | 10 => 301 | 11 => 301 | 12 => 1 | 13 => 1 | 14 => 1 | 15 => 1 | _ => 0
def pcSh (kd : Nat → Nat) (an : Nat → Nat) (ai : Nat → Int → Int) (al : Nat → Int → Int) (ar : Nat → Int → Option Nat) (mX8_rules : Nat → Option Nat) (mX8_axioms : Nat → Option Nat) (mX8_axiomCount : Nat → Int) (mX8_givens : Nat → Option Nat) (mX8_givenCount : Nat → Int) (mX8_wanted : Nat → Option Nat) (mX8_rows : Nat → Option Nat) (mX8_rowCount : Nat → Int) (mX8_looked : Nat → Int) (mX8_from : Nat → Option Nat) (mX8_needed : Nat → Option Nat) (mX8_broken : Nat → Int) (mX8_places : Nat → Option Nat) (mX8_text : Nat → Option Nat) (mX8_size : Nat → Int) (mX9_kind : Nat → Int) (mX9_a : Nat → Int) (mX9_b : Nat → Int) (mX9_c : Nat → Int) (mX26_rule : Nat → Int) (mX26_instance : Nat → Int) (mX26_premises : Nat → Option Nat) (mX26_count : Nat → Int) (mX26_states : Nat → Option Nat) (mX26_right : Nat → Int) (mX26_size : Nat → Int) (mX10_takes : Nat → Int) (mX10_name : Nat → Option Nat) (mX12_any : Nat → Int) (mX14_kind : Nat → Int) (mX16_kind : Nat → Int) (mX18_first : Nat → Int) (mX19_either : Nat → Int) (A : Nat → Int → Nat) (gi : Nat → Nat × Int) (Ro : Int → Nat) : Prop :=
  Lab pK pL kd an A gi pN ∧ (mX8_rules (A 0 0) = some (A 1 0) ∧ mX8_axioms (A 0 0) = some (A 3 0) ∧ mX8_givens (A 0 0) = some (A 5 0) ∧ mX8_wanted (A 0 0) = some (A 7 0) ∧ mX8_rows (A 0 0) = some (A 8 0) ∧ mX8_from (A 0 0) = some (A 12 0) ∧ mX8_needed (A 0 0) = some (A 13 0) ∧ mX8_places (A 0 0) = some (A 14 0) ∧ mX8_text (A 0 0) = some (A 15 0)) ∧
  (∀ z, 0 ≤ z → z < 18 → ar (A 1 0) z = some (Ro z) ∧ pcRu kd mX10_takes mX12_any mX14_kind mX16_kind mX18_first mX19_either z (Ro z)) ∧ (∀ k, 0 ≤ k → k < 100 → ar (A 3 0) k = some (A 4 k) ∧ ar (A 5 0) k = some (A 6 k)) ∧ ∀ r, 0 ≤ r → r < 301 → ar (A 8 0) r = some (A 9 r) ∧ mX26_premises (A 9 r) = some (A 10 r) ∧ mX26_states (A 9 r) = some (A 11 r)
/-- axioms and triples -/
def pcDa (mX9_kind mX9_a mX9_b mX9_c : Nat → Int) (A : Nat → Int → Nat) (ax : Int → Int) (na : Int) (tr : Int → Int) (nt : Int) : Prop := (∀ k, 0 ≤ k → k < na → pcO mX9_kind mX9_a mX9_b mX9_c (A 4 k) (fun j => ax (4 * (k + 1) + j))) ∧ ∀ k, 0 ≤ k → k < nt → pcO mX9_kind mX9_a mX9_b mX9_c (A 6 k) (fun j => tr (4 * (k + 1) + j))
/-- rows -/
def pcDr (ai : Nat → Int → Int) (mX26_rule mX26_instance mX26_count : Nat → Int) (A : Nat → Int → Nat) (ru ins ct pr : Int → Int) (n : Int) : Prop := ∀ r, 1 ≤ r → r ≤ n → (mX26_rule (A 9 r) = ru r ∧ mX26_instance (A 9 r) = ins r ∧ mX26_count (A 9 r) = ct r) ∧ ∀ i, 0 ≤ i → i < ct r → ai (A 10 r) i = pr (3 * r + i)
/-- what was looked at -/
def pcDl (mX8_looked mX9_kind mX9_a mX9_b mX9_c mX26_right mX26_size : Nat → Int) (A : Nat → Int → Nat) (S : Int → Int → Int) (ct pr : Int → Int) (n : Int) : Prop := (0 ≤ mX8_looked (A 0 0) ∧ mX8_looked (A 0 0) ≤ n) ∧ ∀ r, 1 ≤ r → r ≤ mX8_looked (A 0 0) → mX26_right (A 9 r) = (if S r 0 = 0 then 0 else 1) ∧ mX26_size (A 9 r) = pcSz ct pr r ∧ pcO mX9_kind mX9_a mX9_b mX9_c (A 11 r) (S r)
section
variable {kd : Nat → Nat} {an : Nat → Nat} {ai : Nat → Int → Int} {al : Nat → Int → Int} {ar : Nat → Int → Option Nat} {mX8_rules : Nat → Option Nat} {mX8_axioms : Nat → Option Nat} {mX8_axiomCount : Nat → Int} {mX8_givens : Nat → Option Nat} {mX8_givenCount : Nat → Int} {mX8_wanted : Nat → Option Nat} {mX8_rows : Nat → Option Nat} {mX8_rowCount : Nat → Int} {mX8_looked : Nat → Int} {mX8_from : Nat → Option Nat} {mX8_needed : Nat → Option Nat} {mX8_broken : Nat → Int} {mX8_places : Nat → Option Nat} {mX8_text : Nat → Option Nat} {mX8_size : Nat → Int} {mX9_kind : Nat → Int} {mX9_a : Nat → Int} {mX9_b : Nat → Int} {mX9_c : Nat → Int} {mX26_rule : Nat → Int} {mX26_instance : Nat → Int} {mX26_premises : Nat → Option Nat} {mX26_count : Nat → Int} {mX26_states : Nat → Option Nat} {mX26_right : Nat → Int} {mX26_size : Nat → Int} {mX10_takes : Nat → Int} {mX10_name : Nat → Option Nat} {mX12_any : Nat → Int} {mX14_kind : Nat → Int} {mX16_kind : Nat → Int} {mX18_first : Nat → Int} {mX19_either : Nat → Int} {A : Nat → Int → Nat} {gi : Nat → Nat × Int} {Ro : Int → Nat} {ax tr ru ins ct pr : Int → Int} {na nt n : Int} {S : Int → Int → Int}
theorem pcSh.k (H : pcSh kd an ai al ar mX8_rules mX8_axioms mX8_axiomCount mX8_givens mX8_givenCount mX8_wanted mX8_rows mX8_rowCount mX8_looked mX8_from mX8_needed mX8_broken mX8_places mX8_text mX8_size mX9_kind mX9_a mX9_b mX9_c mX26_rule mX26_instance mX26_premises mX26_count mX26_states mX26_right mX26_size mX10_takes mX10_name mX12_any mX14_kind mX16_kind mX18_first mX19_either A gi Ro) (i : Nat) (j : Int) (h0 : 0 ≤ j) (h1 : j < pN i) : kd (A i j) = pK i := (H.1 i j h0 h1).2.1.1
theorem pcSh.l (H : pcSh kd an ai al ar mX8_rules mX8_axioms mX8_axiomCount mX8_givens mX8_givenCount mX8_wanted mX8_rows mX8_rowCount mX8_looked mX8_from mX8_needed mX8_broken mX8_places mX8_text mX8_size mX9_kind mX9_a mX9_b mX9_c mX26_rule mX26_instance mX26_premises mX26_count mX26_states mX26_right mX26_size mX10_takes mX10_name mX12_any mX14_kind mX16_kind mX18_first mX19_either A gi Ro) (i : Nat) (j : Int) (h0 : 0 ≤ j) (h1 : j < pN i) (hl : pL i ≠ 0) : an (A i j) = pL i := (H.1 i j h0 h1).2.2 hl
theorem pcSh.ne (H : pcSh kd an ai al ar mX8_rules mX8_axioms mX8_axiomCount mX8_givens mX8_givenCount mX8_wanted mX8_rows mX8_rowCount mX8_looked mX8_from mX8_needed mX8_broken mX8_places mX8_text mX8_size mX9_kind mX9_a mX9_b mX9_c mX26_rule mX26_instance mX26_premises mX26_count mX26_states mX26_right mX26_size mX10_takes mX10_name mX12_any mX14_kind mX16_kind mX18_first mX19_either A gi Ro) {i i' : Nat} {j j' : Int} (h0 : 0 ≤ j ∧ j < pN i) (h1 : 0 ≤ j' ∧ j' < pN i') (hn : i ≠ i' ∨ j ≠ j') : A i j ≠ A i' j' := H.1.ne h0 h1 hn
theorem pcSh.fr (H : pcSh kd an ai al ar mX8_rules mX8_axioms mX8_axiomCount mX8_givens mX8_givenCount mX8_wanted mX8_rows mX8_rowCount mX8_looked mX8_from mX8_needed mX8_broken mX8_places mX8_text mX8_size mX9_kind mX9_a mX9_b mX9_c mX26_rule mX26_instance mX26_premises mX26_count mX26_states mX26_right mX26_size mX10_takes mX10_name mX12_any mX14_kind mX16_kind mX18_first mX19_either A gi Ro) (f : Int → Option Nat) : pcSh kd an ai al (va_up ar (A 12 0) f) mX8_rules mX8_axioms mX8_axiomCount mX8_givens mX8_givenCount mX8_wanted mX8_rows mX8_rowCount mX8_looked mX8_from mX8_needed mX8_broken mX8_places mX8_text mX8_size mX9_kind mX9_a mX9_b mX9_c mX26_rule mX26_instance mX26_premises mX26_count mX26_states mX26_right mX26_size mX10_takes mX10_name mX12_any mX14_kind mX16_kind mX18_first mX19_either A gi Ro := by
  obtain ⟨s1, s2, s3, s4, s5⟩ := H
  have ne : ∀ i : Nat, i ≠ 12 → pN i = 1 → A i 0 ≠ A 12 0 := fun i h e => s1.ne ⟨by decide, by rw [e]; decide⟩ ⟨by decide, z01⟩ (Or.inl h)
  refine ⟨s1, s2, fun z a b => ?_, fun k a b => ?_, fun r a b => ?_⟩
  · rw [va_up_ne _ _ (ne 1 (by decide) rfl)]; exact s3 z a b
  · rw [va_up_ne _ _ (ne 3 (by decide) rfl), va_up_ne _ _ (ne 5 (by decide) rfl)]; exact s4 k a b
  · rw [va_up_ne _ _ (ne 8 (by decide) rfl)]; exact s5 r a b
theorem pcRu.kk {z : Int} {o : Nat} (U : pcRu kd mX10_takes mX12_any mX14_kind mX16_kind mX18_first mX19_either z o) : (kd o = 4 ∨ kd o = 5 ∨ kd o = 6 ∨ kd o = 7 ∨ kd o = 8 ∨ kd o = 9 ∨ kd o = 10 ∨ kd o = 11 ∨ kd o = 12 ∨ kd o = 13 ∨ kd o = 14 ∨ kd o = 15 ∨ kd o = 16 ∨ kd o = 17) ∧ mX10_takes o = pcT z := by
  refine ⟨?_, U.1⟩
  rcases U.2 with h | h | h | h | h | h | h | h | h | h | h | h | h | h | h | h | h | h <;> simp [h.2]
theorem CPC_prem {post : Int → Prop} {z : Int} {o : Nat} (U : pcRu kd mX10_takes mX12_any mX14_kind mX16_kind mX18_first mX19_either z o) (hp : post (pcT z)) : wpDPC_X10_premises_4_5_6_7_8_9_10_11_12_13_14_15_16_17 post kd mX10_takes o := by
  obtain ⟨k, e⟩ := U.kk
  unfold wpDPC_X10_premises_4_5_6_7_8_9_10_11_12_13_14_15_16_17 wpPC_X10_premises
  rw [e]
  simp only [hp, and_true]
  exact k
theorem CPC_l182 {K : (Nat → Int → Option Nat) → (Nat → Int) → (Nat → Int) → (Nat → Int) → (Nat → Int) → (Nat → Int) → (Nat → Int) → (Nat → Int) → Prop} {b t : Nat} {y : Int} (kb : kd b = 3) (eb : mX26_states b = some t) (kt : kd t = 2) (hy : y = 0 ∨ y = 1) (h0 : y = 0 → K ar mX8_looked (va_up mX9_kind t 0) (va_up mX9_a t 0) (va_up mX9_b t 0) (va_up mX9_c t 0) (va_up mX26_right b 0) mX26_size) (h1 : y = 1 → K ar mX8_looked mX9_kind mX9_a mX9_b mX9_c (va_up mX26_right b 1) mX26_size) : wPC_X8_look_182 K (some b) (some b) y kd ar mX8_looked mX9_kind mX9_a mX9_b mX9_c mX26_states mX26_right mX26_size := by
  unfold wPC_X8_look_182 wpPC_X9_set
  simp only [kOn_iff, forall_eq, kb, eb, kt, va_up_self, true_and]
  refine ⟨hy, fun e => ?_, fun e => ?_⟩
  · subst e; exact h0 rfl
  · have : y = 1 := by omega
    subst this; exact h1 rfl
theorem CPC_l63 {K : Int → (Nat → Int → Option Nat) → (Nat → Int) → Prop} {r v : Int} (H : pcSh kd an ai al ar mX8_rules mX8_axioms mX8_axiomCount mX8_givens mX8_givenCount mX8_wanted mX8_rows mX8_rowCount mX8_looked mX8_from mX8_needed mX8_broken mX8_places mX8_text mX8_size mX9_kind mX9_a mX9_b mX9_c mX26_rule mX26_instance mX26_premises mX26_count mX26_states mX26_right mX26_size mX10_takes mX10_name mX12_any mX14_kind mX16_kind mX18_first mX19_either A gi Ro) (hr : 1 ≤ r ∧ r ≤ n) (hn : n ≤ 300) (hP : pcPr ct pr n) (hD : pcDr ai mX26_rule mX26_instance mX26_count A ru ins ct pr n) (hL : ∀ p, 1 ≤ p → p < r → mX26_right (A 9 p) = (if S p 0 = 0 then 0 else 1) ∧ mX26_size (A 9 p) = pcSz ct pr p) (hv : v = 0 ∨ v = 1) (ev : mX26_right (A 9 r) = v)
    (hp : ∀ f w, (∀ i, 0 ≤ i → i < ct r → f i = some (A 11 (pr (3 * r + i)))) → (w = 0 ∨ w = 1) → (w = 1 ↔ (v = 1 ∧ ∀ i, 0 ≤ i → i < ct r → ¬ S (pr (3 * r + i)) 0 = 0)) → K (pcSm (pcSz ct pr) pr r (ct r).toNat) (va_up ar (A 12 0) f) (va_up mX26_right (A 9 r) w)) : ∃ fu, wPC_X8_look_63 K (A 0 0) (some (A 9 r)) kd an ai mX8_rows mX8_from mX26_premises mX26_count mX26_states mX26_size fu 1 0 ar mX26_right := by
  obtain ⟨s1, s2, s3, s4, s5⟩ := id H
  have P := hP r hr.1 hr.2
  have D := hD r hr.1 hr.2
  have k9 : ∀ j, 0 ≤ j → j < 301 → kd (A 9 j) = 3 := fun j a b => H.k 9 j a b
  have k10 : kd (A 10 r) = 18 := H.k 10 r (by omega) (by show r < 301; omega)
  have l10 : an (A 10 r) = 3 := H.l 10 r (by omega) (by show r < 301; omega) (by decide)
  have k8 : kd (A 8 0) = 23 := H.k 8 0 (by decide) z01
  have l8 : an (A 8 0) = 301 := H.l 8 0 (by decide) z01 (by decide)
  have k12 : kd (A 12 0) = 22 := H.k 12 0 (by decide) z01
  have l12 : an (A 12 0) = 3 := H.l 12 0 (by decide) z01 (by decide)
  have n812 : A 8 0 ≠ A 12 0 := H.ne ⟨by decide, z01⟩ ⟨by decide, z01⟩ (Or.inl (by decide))
  refine wl4 (fun m x i ar ri => wPC_X8_look_63 K (A 0 0) (some (A 9 r)) kd an ai mX8_rows mX8_from mX26_premises mX26_count mX26_states mX26_size m x i ar ri) (fun x i ar' ri => (0 ≤ i ∧ i ≤ ct r) ∧ x = pcSm (pcSz ct pr) pr r i.toNat ∧ ∃ f w, ar' = va_up ar (A 12 0) f ∧ ri = va_up mX26_right (A 9 r) w ∧ (∀ j, 0 ≤ j → j < i → f j = some (A 11 (pr (3 * r + j)))) ∧ (w = 0 ∨ w = 1) ∧ (w = 1 ↔ (v = 1 ∧ ∀ j, 0 ≤ j → j < i → ¬ S (pr (3 * r + j)) 0 = 0))) (fun x i _ _ => (ct r - i).toNat) ?_ 1 0 ar mX26_right ⟨by omega, rfl, ar (A 12 0), v, (va_up_id rfl).symm, (va_up_id ev.symm).symm, fun j a b => by omega, hv, fun h => ⟨h, fun j a b => by omega⟩, fun h => h.1⟩
  rintro x i ar' ri ⟨hi, hx, f, w, rfl, rfl, hf, hw, iw⟩ m ih
  rw [wPC_X8_look_63]
  refine kOn_some ⟨k9 r (by omega) (by omega), ?_⟩
  rw [D.1.2.2]
  refine ⟨fun z => ?_, fun z => ?_⟩
  · have : i = ct r := by omega
    subst this
    rw [hx]
    exact hp f w hf hw iw
  · have pb := P.2 i hi.1 (by omega)
    have L := hL (pr (3 * r + i)) pb.1 pb.2
    have s5p := s5 (pr (3 * r + i)) (by omega) (by omega)
    have np : A 9 (pr (3 * r + i)) ≠ A 9 r := H.ne (i := 9) (i' := 9) ⟨by omega, by show _ < (301 : Int); omega⟩ ⟨by omega, by show r < 301; omega⟩ (Or.inr (by omega))
    have sb := pcSz_b hP 300 pb.1 (by omega) (by omega)
    have sm : 1 ≤ pcSm (pcSz ct pr) pr r i.toNat ∧ pcSm (pcSz ct pr) pr r i.toNat ≤ 1 + 1000000000 * i.toNat := pcSm_b (fun j c d => pcSz_b hP 300 (P.2 j c (by omega)).1 (by have := P.2 j c (by omega); omega) (by have := P.2 j c (by omega); omega))
    refine kOn_of (s5 r (by omega) (by omega)).2.1 ⟨k10, by rw [l10]; omega, kOn_of s2.2.2.2.2.1 ⟨k8, ?_⟩⟩
    rw [D.2 i hi.1 (by omega), l8]
    refine ⟨by omega, fun r33 e33 => ?_⟩
    rw [va_up_ne _ _ n812, s5p.1] at e33
    subst e33
    refine kOn_some ⟨k9 _ (by omega) (by omega), fun v36 e36 => kOn_of s2.2.2.2.2.2.1 ⟨k12, by rw [l12]; omega, kOn_of (e36.trans s5p.2.2) ⟨H.k 11 _ (by omega) (by show _ < (301 : Int); omega), fun _ e42 v44 e44 => ?_⟩⟩⟩
    rw [va_up_self, va_up_ne _ _ np, L.1] at e44
    have e44' : v44 = (if w = 1 ∧ ¬ S (pr (3 * r + i)) 0 = 0 then 1 else 0) := by
      rw [e44]
      by_cases c : S (pr (3 * r + i)) 0 = 0
      · rw [if_pos c, if_neg (fun h => h.2 c)]
        rcases hw with rfl | rfl <;> decide
      · rw [if_neg c]
        rcases hw with rfl | rfl
        · rw [if_neg (fun h => absurd h.1 (by decide))]; decide
        · rw [if_pos ⟨rfl, c⟩]; decide
    rw [L.2]
    refine ⟨by rw [e44']; split <;> simp, fun _ e46 => ⟨by omega, fun _ e51 => ⟨by omega, fun _ e52 => ?_⟩⟩⟩
    subst e42 e46 e51 e52
    rw [va_up_self, va_up_up, va_up_up]
    refine ih _ _ _ _ ⟨by omega, by rw [show (i + 1).toNat = i.toNat + 1 by omega, pcSm, show ((i.toNat : Nat) : Int) = i by omega, hx], _, v44, rfl, rfl, fun j a b => ?_, by rw [e44']; split <;> simp, ?_⟩ (by omega)
    · by_cases h : j = i
      · rw [h, updI_s]
      · rw [updI_n h]; exact hf j a (by omega)
    · rw [e44']
      constructor
      · intro h
        by_cases c : w = 1 ∧ ¬ S (pr (3 * r + i)) 0 = 0
        · refine ⟨(iw.mp c.1).1, fun j a b => ?_⟩
          by_cases h2 : j = i
          · subst h2; exact c.2
          · exact (iw.mp c.1).2 j a (by omega)
        · rw [if_neg c] at h; exact absurd h (by decide)
      · intro h
        rw [if_pos ⟨iw.mpr ⟨h.1, fun j a b => h.2 j a (by omega)⟩, h.2 i hi.1 (by omega)⟩]
end
