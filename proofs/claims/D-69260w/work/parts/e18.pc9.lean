/-! ProofChecker (room PC): check, broken, drop -/
section
variable {kd : Nat → Nat} {an : Nat → Nat} {ai : Nat → Int → Int} {al : Nat → Int → Int} {ar : Nat → Int → Option Nat} {mX8_rules : Nat → Option Nat} {mX8_axioms : Nat → Option Nat} {mX8_axiomCount : Nat → Int} {mX8_givens : Nat → Option Nat} {mX8_givenCount : Nat → Int} {mX8_wanted : Nat → Option Nat} {mX8_rows : Nat → Option Nat} {mX8_rowCount : Nat → Int} {mX8_looked : Nat → Int} {mX8_from : Nat → Option Nat} {mX8_needed : Nat → Option Nat} {mX8_broken : Nat → Int} {mX8_places : Nat → Option Nat} {mX8_text : Nat → Option Nat} {mX8_size : Nat → Int} {mX9_kind : Nat → Int} {mX9_a : Nat → Int} {mX9_b : Nat → Int} {mX9_c : Nat → Int} {mX26_rule : Nat → Int} {mX26_instance : Nat → Int} {mX26_premises : Nat → Option Nat} {mX26_count : Nat → Int} {mX26_states : Nat → Option Nat} {mX26_right : Nat → Int} {mX26_size : Nat → Int} {mX10_takes : Nat → Int} {mX10_name : Nat → Option Nat} {mX12_any : Nat → Int} {mX14_kind : Nat → Int} {mX16_kind : Nat → Int} {mX18_first : Nat → Int} {mX19_either : Nat → Int} {A : Nat → Int → Nat} {gi : Nat → Nat × Int} {Ro : Int → Nat} {ax tr ru ins ct pr : Int → Int} {na nt n br root : Int} {tx : List Int} {S : Int → Int → Int}
theorem CPC_broken {post : Int → Prop} (O : pcOK kd an ai al ar mX8_rules mX8_axioms mX8_axiomCount mX8_givens mX8_givenCount mX8_wanted mX8_rows mX8_rowCount mX8_looked mX8_from mX8_needed mX8_broken mX8_places mX8_text mX8_size mX9_kind mX9_a mX9_b mX9_c mX26_rule mX26_instance mX26_premises mX26_count mX26_states mX26_right mX26_size mX10_takes mX10_name mX12_any mX14_kind mX16_kind mX18_first mX19_either A gi Ro ax na tr nt ru ins ct pr n br tx) (hp : post br) : wpPC_X8_broken post mX8_broken (A 0 0) := by
  unfold wpPC_X8_broken
  rw [O.2.2.2.2.2.2.2.1]
  exact hp
theorem CPC_apr {P Q : Prop} {r : Int} (H : pcSh kd an ai al ar mX8_rules mX8_axioms mX8_axiomCount mX8_givens mX8_givenCount mX8_wanted mX8_rows mX8_rowCount mX8_looked mX8_from mX8_needed mX8_broken mX8_places mX8_text mX8_size mX9_kind mX9_a mX9_b mX9_c mX26_rule mX26_instance mX26_premises mX26_count mX26_states mX26_right mX26_size mX10_takes mX10_name mX12_any mX14_kind mX16_kind mX18_first mX19_either A gi Ro) (hr : 1 ≤ r ∧ r ≤ n) (hn : n ≤ 300) (hP : pcPr ct pr n) (hD : pcDr ai mX26_rule mX26_instance mX26_count A ru ins ct pr n) (hL : ∀ p, 1 ≤ p → p < r → mX26_right (A 9 p) = (if S p 0 = 0 then 0 else 1)) (h1 : (∀ i, 0 ≤ i → i < ct r → ¬ S (pr (3 * r + i)) 0 = 0) → Q) (h0 : ¬ (∀ i, 0 ≤ i → i < ct r → ¬ S (pr (3 * r + i)) 0 = 0) → P) : wpPC_X8_arePremisesRight (fun v => (v = 0 → P) ∧ (¬ v = 0 → Q)) kd an ai ar mX8_rows mX26_premises mX26_count mX26_right (A 0 0) (some (A 9 r)) := by
  obtain ⟨s1, s2, s3, s4, s5⟩ := id H
  have Pp := hP r hr.1 hr.2
  have D := hD r hr.1 hr.2
  have S5 := s5 r (by omega) (by omega)
  have k10 : kd (A 10 r) = 18 := H.k 10 r (by omega) (by show r < 301; omega)
  have l10 : an (A 10 r) = 3 := H.l 10 r (by omega) (by show r < 301; omega) (by decide)
  have k8 : kd (A 8 0) = 23 := H.k 8 0 (by decide) z01
  have l8 : an (A 8 0) = 301 := H.l 8 0 (by decide) z01 (by decide)
  unfold wpPC_X8_arePremisesRight
  refine wl2 (fun m v i => wPC_X8_arePremisesRight_4 _ (A 0 0) (some (A 9 r)) kd an ai ar mX8_rows mX26_premises mX26_count mX26_right m v i) (fun v i => (0 ≤ i ∧ i ≤ ct r) ∧ (v = 0 ∨ v = 1) ∧ (v = 1 ↔ ∀ j, 0 ≤ j → j < i → ¬ S (pr (3 * r + j)) 0 = 0)) (fun v i => (ct r - i).toNat) ?_ 1 0 ⟨by omega, Or.inr rfl, fun _ j a b => by omega, fun _ => rfl⟩
  rintro v i ⟨hi, hv, iv⟩ m ih
  rw [wPC_X8_arePremisesRight_4]
  refine kOn_some ⟨H.k 9 r (by omega) (by show r < 301; omega), ?_⟩
  rw [D.1.2.2]
  refine ⟨fun z => ?_, fun z => kOn_of S5.2.1 ⟨k10, by rw [l10]; omega, kOn_of s2.2.2.2.2.1 ⟨k8, ?_⟩⟩⟩
  · have ei : i = ct r := by omega
    subst ei
    refine ⟨hv, fun e => h0 (fun w => ?_), fun e => h1 (iv.mp (by omega))⟩
    have := iv.mpr w
    omega
  · have pb := Pp.2 i hi.1 (by omega)
    rw [D.2 i hi.1 (by omega), l8]
    refine ⟨by omega, fun r11 e11 => ?_⟩
    rw [(s5 _ (by omega) (by omega)).1] at e11
    subst e11
    refine kOn_some ⟨H.k 9 _ (by omega) (by show _ < (301 : Int); omega), fun x2 e2 => ⟨by omega, fun x3 e3 => ?_⟩⟩
    rw [hL _ pb.1 pb.2] at e2
    have e2' : x2 = (if v = 1 ∧ ¬ S (pr (3 * r + i)) 0 = 0 then 1 else 0) := by
      rw [e2]
      by_cases c : S (pr (3 * r + i)) 0 = 0
      · rw [if_pos c, if_neg (fun h => h.2 c)]
        rcases hv with rfl | rfl <;> decide
      · rw [if_neg c]
        rcases hv with rfl | rfl
        · rw [if_neg (fun h => absurd h.1 (by decide))]; decide
        · rw [if_pos ⟨rfl, c⟩]; decide
    rw [e3]
    refine ih _ _ ⟨by omega, by rw [e2']; split <;> simp, ?_⟩ (by omega)
    rw [e2']
    by_cases c : v = 1 ∧ ¬ S (pr (3 * r + i)) 0 = 0
    · rw [if_pos c]
      refine ⟨fun _ j a b => ?_, fun _ => rfl⟩
      by_cases h : j = i
      · subst h; exact c.2
      · exact iv.mp c.1 j a (by omega)
    · rw [if_neg c]
      refine ⟨fun h => absurd h (by decide), fun w => ?_⟩
      exact absurd ⟨iv.mpr (fun j a b => w j a (by omega)), w i hi.1 (by omega)⟩ c
theorem CPC_check {post : Int → (Nat → Int → Int) → (Nat → Int → Option Nat) → (Nat → Int) → (Nat → Int) → (Nat → Int) → (Nat → Int) → (Nat → Int) → (Nat → Int) → (Nat → Int) → (Nat → Int) → Prop} (O : pcOK kd an ai al ar mX8_rules mX8_axioms mX8_axiomCount mX8_givens mX8_givenCount mX8_wanted mX8_rows mX8_rowCount mX8_looked mX8_from mX8_needed mX8_broken mX8_places mX8_text mX8_size mX9_kind mX9_a mX9_b mX9_c mX26_rule mX26_instance mX26_premises mX26_count mX26_states mX26_right mX26_size mX10_takes mX10_name mX12_any mX14_kind mX16_kind mX18_first mX19_either A gi Ro ax na tr nt ru ins ct pr n br tx) (hp : ∀ ai' ar' lo bm ki a b c ri sz, pcOK kd an (ai') al (ar') mX8_rules mX8_axioms mX8_axiomCount mX8_givens mX8_givenCount mX8_wanted mX8_rows mX8_rowCount lo mX8_from mX8_needed bm mX8_places mX8_text mX8_size ki a b c mX26_rule mX26_instance mX26_premises mX26_count mX26_states ri sz mX10_takes mX10_name mX12_any mX14_kind mX16_kind mX18_first mX19_either A gi Ro ax na tr nt ru ins ct pr n (pcChB ct pr (pcS ax tr ru ins ct pr) n root br) tx → post (pcChk ct pr (pcS ax tr ru ins ct pr) n root) ai' ar' lo bm ki a b c ri sz) : wpPC_X8_check post kd an ai ar mX8_rules mX8_axioms mX8_givens mX8_rows mX8_rowCount mX8_looked mX8_from mX8_needed mX8_broken mX9_kind mX9_a mX9_b mX9_c mX26_rule mX26_instance mX26_premises mX26_count mX26_states mX26_right mX26_size mX10_takes mX12_any mX14_kind mX16_kind mX18_first mX19_either (A 0 0) root := by
  have hn := O.2.1.1
  unfold wpPC_X8_check
  unfold pcChk pcChB at hp
  refine CPC_isRowB O.2.2.2.2.2.2.1 (fun hr => CPC_lookO O hr.2 (fun ar' lo ki a b c ri sz O1 hl => CPC_need O1 hr (fun f hf bm0 eb0 => ?_))) (fun hr => by rw [if_neg hr, if_neg hr] at hp; exact hp _ _ _ _ _ _ _ _ _ _ O)
  subst eb0
  rw [if_pos hr, if_pos hr] at hp
  have O2 := O1.nai (f := f)
  obtain ⟨⟨wa, H, da, dw, dl⟩, hI, hAT, hD, -⟩ := id O2
  obtain ⟨s1, s2, s3, s4, s5⟩ := id H
  have k13 : kd (A 13 0) = 19 := H.k 13 0 (by decide) z01
  have l13 : an (A 13 0) = 301 := H.l 13 0 (by decide) z01 (by decide)
  have k8 : kd (A 8 0) = 23 := H.k 8 0 (by decide) z01
  have l8 : an (A 8 0) = 301 := H.l 8 0 (by decide) z01 (by decide)
  have e13 : va_up ai (A 13 0) f (A 13 0) = f := va_up_self _ _ _
  refine wl2 (fun m x bm => wPC_X8_check_28 _ (A 0 0) kd an (va_up ai (A 13 0) f) (ar') mX8_rows mX8_needed mX26_premises mX26_count ri m x bm) (fun x bm => (0 ≤ x ∧ x ≤ root) ∧ bm = va_up mX8_broken (A 0 0) (pcBr ct pr (pcS ax tr ru ins ct pr) root (root - x).toNat)) (fun x bm => x.toNat) ?_ root _ ⟨by omega, by rw [Int.sub_self]; rfl⟩
  rintro x bm ⟨hx, rfl⟩ m ih
  rw [wPC_X8_check_28]
  refine ⟨fun z => ?_, fun z => kOn_of s2.2.2.2.2.2.2.1 ⟨k13, by rw [l13]; omega, ?_⟩⟩
  · have : x = 0 := by omega
    subst this
    rw [Int.sub_zero]
    refine kOn_of s2.2.2.2.2.1 ⟨k8, by rw [l8]; omega, fun r47 e47 => ?_⟩
    rw [(s5 root (by omega) (by omega)).1] at e47
    subst e47
    have g := hp _ _ _ _ _ _ _ _ _ _ O2.nbr
    refine kOn_some ⟨H.k 9 _ (by omega) (by show root < 301; omega), ?_⟩
    rw [(dl.2 root hr.1 hl).1]
    by_cases c0 : pcS ax tr ru ins ct pr root 0 = 0
    · rw [if_pos c0] at g ⊢
      exact ⟨fun _ => g, fun q => absurd rfl q⟩
    · rw [if_neg c0] at g ⊢
      exact ⟨fun q => absurd q (by decide), fun _ => g⟩
  rw [e13]
  have ed : (root - (x + -1)).toNat = (root - x).toNat + 1 := by omega
  have ex : root - ((root - x).toNat : Int) = x := by omega
  have mx := hf x (by omega) (by omega)
  have no : ¬ (pcNd ct pr root x ∧ pcS ax tr ru ins ct pr x 0 = 0 ∧ ∀ i, 0 ≤ i → i < ct x → ¬ pcS ax tr ru ins ct pr (pr (3 * x + i)) 0 = 0) → pcBr ct pr (pcS ax tr ru ins ct pr) root (root - (x + -1)).toNat = pcBr ct pr (pcS ax tr ru ins ct pr) root (root - x).toNat := fun w => by
    rw [ed, pcBr, ex, pif_f w]
  have yes : (pcNd ct pr root x ∧ pcS ax tr ru ins ct pr x 0 = 0 ∧ ∀ i, 0 ≤ i → i < ct x → ¬ pcS ax tr ru ins ct pr (pr (3 * x + i)) 0 = 0) → pcBr ct pr (pcS ax tr ru ins ct pr) root (root - (x + -1)).toNat = x := fun w => by
    rw [ed, pcBr, ex, pif_t w]
  refine ⟨fun e => ⟨by omega, fun _ e1 => ?_⟩, fun e => kOn_of s2.2.2.2.2.1 ⟨k8, by rw [l8]; omega, fun r28 e28 => ?_⟩⟩
  · rw [e1]
    exact ih _ _ ⟨by omega, by rw [no (fun w => mx.mpr w.1 e)]⟩ (by omega)
  have S5 := s5 x (by omega) (by omega)
  rw [S5.1] at e28
  subst e28
  have dx := (dl.2 x (by omega) (by omega)).1
  refine kOn_some ⟨H.k 9 _ (by omega) (by show x < 301; omega), fun e2 r34 e34 => ?_, fun e2 => ⟨by omega, fun _ e1 => ?_⟩⟩
  · rw [S5.1] at e34
    subst e34
    have s0 : pcS ax tr ru ins ct pr x 0 = 0 := by
      by_cases c0 : pcS ax tr ru ins ct pr x 0 = 0
      · exact c0
      · rw [dx, if_neg c0] at e2; exact absurd e2 (by decide)
    refine CPC_apr (S := pcS ax tr ru ins ct pr) H ⟨by omega, by omega⟩ (by omega) hI.prm hD (fun p p0 p1 => (dl.2 p p0 (by omega)).1) (fun w bm2 eb => ⟨by omega, fun _ e1 => ?_⟩) (fun w => ⟨by omega, fun _ e1 => ?_⟩)
    · rw [eb, e1, va_up_up]
      exact ih _ _ ⟨by omega, by rw [yes ⟨mx.mp e, s0, w⟩]⟩ (by omega)
    · rw [e1]
      exact ih _ _ ⟨by omega, by rw [no (fun y => w y.2.2)]⟩ (by omega)
  · rw [e1]
    have nn : ¬ pcS ax tr ru ins ct pr x 0 = 0 := fun y => by
      rw [dx, if_pos y] at e2
      exact e2 rfl
    exact ih _ _ ⟨by omega, by rw [no (fun y => nn y.2.1)]⟩ (by omega)
theorem CPC_take {post : (Nat → Int → Int) → (Nat → Int) → (Nat → Int) → (Nat → Int) → Prop} {q x c : Int} (H : pcSh kd an ai al ar mX8_rules mX8_axioms mX8_axiomCount mX8_givens mX8_givenCount mX8_wanted mX8_rows mX8_rowCount mX8_looked mX8_from mX8_needed mX8_broken mX8_places mX8_text mX8_size mX9_kind mX9_a mX9_b mX9_c mX26_rule mX26_instance mX26_premises mX26_count mX26_states mX26_right mX26_size mX10_takes mX10_name mX12_any mX14_kind mX16_kind mX18_first mX19_either A gi Ro) (hq : 0 ≤ q ∧ q < 301) (hx : 0 ≤ x ∧ x < 301) (ne : q ≠ x) (ec : mX26_count (A 9 x) = c) (hc : 0 ≤ c ∧ c ≤ 3) (hp : ∀ f, (∀ i, 0 ≤ i → i < c → f i = ai (A 10 x) i) → post (va_up ai (A 10 q) f) (va_up mX26_rule (A 9 q) (mX26_rule (A 9 x))) (va_up mX26_instance (A 9 q) (mX26_instance (A 9 x))) (va_up mX26_count (A 9 q) c)) : wpPC_X26_take post kd an ai mX26_rule mX26_instance mX26_premises mX26_count (A 9 q) (some (A 9 x)) := by
  obtain ⟨s1, s2, s3, s4, s5⟩ := id H
  have n9 : A 9 x ≠ A 9 q := H.ne (i := 9) (i' := 9) hx hq (Or.inr (Ne.symm ne))
  have n10 : A 10 x ≠ A 10 q := H.ne (i := 10) (i' := 10) hx hq (Or.inr (Ne.symm ne))
  have k9 : kd (A 9 x) = 3 := H.k 9 _ hx.1 hx.2
  unfold wpPC_X26_take wpPC_X26_set
  refine kOn_some ⟨k9, ?_⟩
  intro _ e1 _ e2 _ e3 v e4 cm e5
  subst e1 e2 e3
  rw [va_up_ne _ _ n9, ec] at e4
  rw [va_up_up, e4] at e5
  subst e5
  refine wl2 (fun m i s => wPC_X26_take_22 _ (A 9 q) (some (A 9 x)) kd an mX26_premises (va_up mX26_count (A 9 q) c) m i s) (fun i s => (0 ≤ i ∧ i ≤ c) ∧ ∃ f, s = va_up ai (A 10 q) f ∧ ∀ j, 0 ≤ j → j < i → f j = ai (A 10 x) j) (fun i s => (c - i).toNat) ?_ 0 _ ⟨by omega, ai (A 10 q), (va_up_id rfl).symm, fun j a b => by omega⟩
  rintro i s ⟨hi, f, rfl, hf⟩ m ih
  rw [wPC_X26_take_22, va_up_self]
  refine ⟨fun z => ?_, fun z => kOn_some ⟨k9, kOn_of (s5 x hx.1 hx.2).2.1 ⟨H.k 10 _ hx.1 hx.2, by rw [H.l 10 x hx.1 hx.2 (by decide)]; show 0 ≤ i ∧ i < (3 : Int); omega, fun v16 e16 => kOn_of (s5 q hq.1 hq.2).2.1 ⟨H.k 10 _ hq.1 hq.2, by rw [H.l 10 q hq.1 hq.2 (by decide)]; show 0 ≤ i ∧ i < (3 : Int); omega, fun _ e20 => ⟨by omega, fun _ e21 => ?_⟩⟩⟩⟩⟩
  · have : i = c := by omega
    subst this
    exact hp f hf
  · rw [va_up_ne _ _ n10] at e16
    rw [e20, e21, va_up_self, va_up_up]
    refine ih _ _ ⟨by omega, _, rfl, fun j a b => ?_⟩ (by omega)
    by_cases h : j = i
    · rw [h, updI_s]; exact e16
    · rw [updI_n h]; exact hf j a (by omega)
theorem CPC_d80 {K : (Nat → Int → Int) → Prop} {q c : Int} (H : pcSh kd an ai al ar mX8_rules mX8_axioms mX8_axiomCount mX8_givens mX8_givenCount mX8_wanted mX8_rows mX8_rowCount mX8_looked mX8_from mX8_needed mX8_broken mX8_places mX8_text mX8_size mX9_kind mX9_a mX9_b mX9_c mX26_rule mX26_instance mX26_premises mX26_count mX26_states mX26_right mX26_size mX10_takes mX10_name mX12_any mX14_kind mX16_kind mX18_first mX19_either A gi Ro) (hq : 0 ≤ q ∧ q < 301) (ec : mX26_count (A 9 q) = c) (hc : 0 ≤ c ∧ c ≤ 3) (hb : ∀ i, 0 ≤ i → i < c → 0 ≤ ai (A 10 q) i ∧ ai (A 10 q) i < 301) (hp : ∀ f, (∀ i, 0 ≤ i → i < c → f i = ai (A 14 0) (ai (A 10 q) i)) → K (va_up ai (A 10 q) f)) : ∃ fu, wPC_X8_drop_80 K (A 0 0) (some (A 9 q)) kd an mX8_places mX26_premises mX26_count fu 0 ai := by
  obtain ⟨s1, s2, s3, s4, s5⟩ := id H
  have n10 : A 14 0 ≠ A 10 q := H.ne (i := 14) (i' := 10) ⟨by decide, z01⟩ hq (Or.inl (by decide))
  refine wl2 (fun m i s => wPC_X8_drop_80 K (A 0 0) (some (A 9 q)) kd an mX8_places mX26_premises mX26_count m i s) (fun i s => (0 ≤ i ∧ i ≤ c) ∧ ∃ f, s = va_up ai (A 10 q) f ∧ (∀ j, 0 ≤ j → j < i → f j = ai (A 14 0) (ai (A 10 q) j)) ∧ ∀ j, i ≤ j → j < c → f j = ai (A 10 q) j) (fun i s => (c - i).toNat) ?_ 0 _ ⟨by omega, ai (A 10 q), (va_up_id rfl).symm, fun j a b => by omega, fun _ _ _ => rfl⟩
  rintro i s ⟨hi, f, rfl, hf, hg⟩ m ih
  rw [wPC_X8_drop_80]
  refine kOn_some ⟨H.k 9 _ hq.1 hq.2, ?_⟩
  rw [ec]
  refine ⟨fun z => ?_, fun z => kOn_of (s5 q hq.1 hq.2).2.1 ⟨H.k 10 _ hq.1 hq.2, by rw [H.l 10 q hq.1 hq.2 (by decide)]; show 0 ≤ i ∧ i < (3 : Int); omega, kOn_of s2.2.2.2.2.2.2.2.1 ⟨H.k 14 0 (by decide) z01, ?_⟩⟩⟩
  · have : i = c := by omega
    subst this
    exact hp f hf
  · rw [va_up_self, hg i (Int.le_refl _) (by omega), H.l 14 0 (by decide) z01 (by decide), va_up_ne _ _ n10]
    refine ⟨hb i hi.1 (by omega), fun v ev _ e2 => ⟨by omega, fun _ e3 => ?_⟩⟩
    rw [e2, e3, va_up_up]
    refine ih _ _ ⟨by omega, _, rfl, fun j a b => ?_, fun j a b => ?_⟩ (by omega)
    · by_cases h : j = i
      · rw [h, updI_s]; exact ev
      · rw [updI_n h]; exact hf j a (by omega)
    · rw [updI_n (by omega)]; exact hg j (by omega) b
end
