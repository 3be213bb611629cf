/-! ProofChecker (room PC): its invariant; axiom, triple -/
def pcOK (kd : Nat → Nat) (an : Nat → Nat) (ai : Nat → Int → Int) (al : Nat → Int → Int) (ar : Nat → Int → Option Nat) (mX8_rules : Nat → Option Nat) (mX8_axioms : Nat → Option Nat) (mX8_axiomCount : Nat → Int) (mX8_givens : Nat → Option Nat) (mX8_givenCount : Nat → Int) (mX8_wanted : Nat → Option Nat) (mX8_rows : Nat → Option Nat) (mX8_rowCount : Nat → Int) (mX8_looked : Nat → Int) (mX8_from : Nat → Option Nat) (mX8_needed : Nat → Option Nat) (mX8_broken : Nat → Int) (mX8_places : Nat → Option Nat) (mX8_text : Nat → Option Nat) (mX8_size : Nat → Int) (mX9_kind : Nat → Int) (mX9_a : Nat → Int) (mX9_b : Nat → Int) (mX9_c : Nat → Int) (mX26_rule : Nat → Int) (mX26_instance : Nat → Int) (mX26_premises : Nat → Option Nat) (mX26_count : Nat → Int) (mX26_states : Nat → Option Nat) (mX26_right : Nat → Int) (mX26_size : Nat → Int) (mX10_takes : Nat → Int) (mX10_name : Nat → Option Nat) (mX12_any : Nat → Int) (mX14_kind : Nat → Int) (mX16_kind : Nat → Int) (mX18_first : Nat → Int) (mX19_either : Nat → Int) (A : Nat → Int → Nat) (gi : Nat → Nat × Int) (Ro : Int → Nat) (ax : Int → Int) (na : Int) (tr : Int → Int) (nt : Int) (ru ins ct pr : Int → Int) (n br : Int) (tx : List Int) : Prop :=
  (∃ wa, pcJ kd an ai al ar mX8_rules mX8_axioms mX8_axiomCount mX8_givens mX8_givenCount mX8_wanted mX8_rows mX8_rowCount mX8_looked mX8_from mX8_needed mX8_broken mX8_places mX8_text mX8_size mX9_kind mX9_a mX9_b mX9_c mX26_rule mX26_instance mX26_premises mX26_count mX26_states mX26_right mX26_size mX10_takes mX10_name mX12_any mX14_kind mX16_kind mX18_first mX19_either A gi Ro ax na tr nt wa (pcS ax tr ru ins ct pr) ct pr n) ∧ pcI ru ins ct pr na nt n ∧ (pcAx ax na ∧ pcTr tr nt) ∧ pcDr ai mX26_rule mX26_instance mX26_count A ru ins ct pr n ∧ mX8_axiomCount (A 0 0) = na ∧ mX8_givenCount (A 0 0) = nt ∧ mX8_rowCount (A 0 0) = n ∧ mX8_broken (A 0 0) = br ∧ txB (ai (A 15 0)) (mX8_size (A 0 0)) tx
section
variable {kd : Nat → Nat} {an : Nat → Nat} {ai : Nat → Int → Int} {al : Nat → Int → Int} {ar : Nat → Int → Option Nat} {mX8_rules : Nat → Option Nat} {mX8_axioms : Nat → Option Nat} {mX8_axiomCount : Nat → Int} {mX8_givens : Nat → Option Nat} {mX8_givenCount : Nat → Int} {mX8_wanted : Nat → Option Nat} {mX8_rows : Nat → Option Nat} {mX8_rowCount : Nat → Int} {mX8_looked : Nat → Int} {mX8_from : Nat → Option Nat} {mX8_needed : Nat → Option Nat} {mX8_broken : Nat → Int} {mX8_places : Nat → Option Nat} {mX8_text : Nat → Option Nat} {mX8_size : Nat → Int} {mX9_kind : Nat → Int} {mX9_a : Nat → Int} {mX9_b : Nat → Int} {mX9_c : Nat → Int} {mX26_rule : Nat → Int} {mX26_instance : Nat → Int} {mX26_premises : Nat → Option Nat} {mX26_count : Nat → Int} {mX26_states : Nat → Option Nat} {mX26_right : Nat → Int} {mX26_size : Nat → Int} {mX10_takes : Nat → Int} {mX10_name : Nat → Option Nat} {mX12_any : Nat → Int} {mX14_kind : Nat → Int} {mX16_kind : Nat → Int} {mX18_first : Nat → Int} {mX19_either : Nat → Int} {A : Nat → Int → Nat} {gi : Nat → Nat × Int} {Ro : Int → Nat} {ax tr ru ins ct pr ru' ins' ct' pr' wa : Int → Int} {na nt n n' br : Int} {tx : List Int} {S S' : Int → Int → Int}
theorem pcO.c {o : Nat} {f f' : Int → Int} (h : pcO mX9_kind mX9_a mX9_b mX9_c o f) (e : ∀ j, 0 ≤ j → j < 4 → f j = f' j) : pcO mX9_kind mX9_a mX9_b mX9_c o f' := by
  unfold pcO
  rw [← e 0 (by decide) (by decide), ← e 1 (by decide) (by decide), ← e 2 (by decide) (by decide), ← e 3 (by decide) (by decide)]
  exact h
theorem pcO.new {t : Nat} {v0 v1 v2 v3 : Int} : pcO (va_up mX9_kind t v0) (va_up mX9_a t v1) (va_up mX9_b t v2) (va_up mX9_c t v3) t (pcM v0 v1 v2 v3) := by
  unfold pcO
  rw [va_up_self, va_up_self, va_up_self, va_up_self]
  exact ⟨rfl, rfl, rfl, rfl⟩
theorem pcDl.up {t : Nat} {v0 v1 v2 v3 : Int} (D : pcDl mX8_looked mX9_kind mX9_a mX9_b mX9_c mX26_right mX26_size A S ct pr n) (ht : ∀ r, 1 ≤ r → r ≤ n → A 11 r ≠ t) : pcDl mX8_looked (va_up mX9_kind t v0) (va_up mX9_a t v1) (va_up mX9_b t v2) (va_up mX9_c t v3) mX26_right mX26_size A S ct pr n :=
  ⟨D.1, fun r a b => ⟨(D.2 r a b).1, (D.2 r a b).2.1, (D.2 r a b).2.2.up (ht r a (by have := D.1; omega))⟩⟩
theorem pcDl.c (D : pcDl mX8_looked mX9_kind mX9_a mX9_b mX9_c mX26_right mX26_size A S ct pr n) (h : ∀ r, 1 ≤ r → r ≤ mX8_looked (A 0 0) → S r = S' r ∧ pcSz ct pr r = pcSz ct' pr' r) (hn : mX8_looked (A 0 0) ≤ n') : pcDl mX8_looked mX9_kind mX9_a mX9_b mX9_c mX26_right mX26_size A S' ct' pr' n' :=
  ⟨⟨D.1.1, hn⟩, fun r a b => by rw [← (h r a b).1, ← (h r a b).2]; exact D.2 r a b⟩
theorem pcDl.lo {v : Int} (D : pcDl mX8_looked mX9_kind mX9_a mX9_b mX9_c mX26_right mX26_size A S ct pr n) (hv : 0 ≤ v ∧ v ≤ mX8_looked (A 0 0)) : pcDl (va_up mX8_looked (A 0 0) v) mX9_kind mX9_a mX9_b mX9_c mX26_right mX26_size A S ct pr n := by
  unfold pcDl
  rw [va_up_self]
  exact ⟨by have := D.1; omega, fun r a b => D.2 r a (by omega)⟩
theorem pcEr_r {k : Int} : pcEr ru ins ct pr ru ins ct pr k := fun _ _ _ => ⟨⟨rfl, rfl, rfl⟩, fun _ _ _ => rfl⟩
theorem pcOK.nax {t a b : Int} (O : pcOK kd an ai al ar mX8_rules mX8_axioms mX8_axiomCount mX8_givens mX8_givenCount mX8_wanted mX8_rows mX8_rowCount mX8_looked mX8_from mX8_needed mX8_broken mX8_places mX8_text mX8_size mX9_kind mX9_a mX9_b mX9_c mX26_rule mX26_instance mX26_premises mX26_count mX26_states mX26_right mX26_size mX10_takes mX10_name mX12_any mX14_kind mX16_kind mX18_first mX19_either A gi Ro ax na tr nt ru ins ct pr n br tx) (h100 : na < 100) (ht : 1 ≤ t ∧ t ≤ 10) (ha : 0 ≤ a ∧ a < 1000) (hb : 0 ≤ b ∧ b < 1000) : pcOK kd an ai al ar mX8_rules mX8_axioms (va_up mX8_axiomCount (A 0 0) (na + 1)) mX8_givens mX8_givenCount mX8_wanted mX8_rows mX8_rowCount mX8_looked mX8_from mX8_needed mX8_broken mX8_places mX8_text mX8_size (va_up mX9_kind (A 4 na) t) (va_up mX9_a (A 4 na) a) (va_up mX9_b (A 4 na) b) (va_up mX9_c (A 4 na) 0) mX26_rule mX26_instance mX26_premises mX26_count mX26_states mX26_right mX26_size mX10_takes mX10_name mX12_any mX14_kind mX16_kind mX18_first mX19_either A gi Ro (pcLy ax (na + 1) t a b 0) (na + 1) tr nt ru ins ct pr n br tx := by
  obtain ⟨⟨wa, H, ⟨d1, d2⟩, dw, dl⟩, hI, ⟨hA, hT⟩, hD, c1, c2, c3, c4⟩ := O
  obtain ⟨i1, i2, i3, i4⟩ := id hI
  have Y : pcL ax (pcLy ax (na + 1) t a b 0) (na + 1) (pcM t a b 0) := pcL_of
  obtain ⟨y1, y2⟩ := Y
  have m : 0 ≤ na ∧ na < pN 4 := ⟨by omega, by show na < 100; omega⟩
  have E : pcE ax (pcLy ax (na + 1) t a b 0) na tr tr nt := ⟨fun k k0 k1 j j0 j1 => (y2 _ (by omega)).symm, fun _ _ _ _ _ _ => rfl⟩
  refine ⟨⟨wa, H, ⟨fun k k0 k1 => ?_, fun k k0 k1 => (d2 k k0 k1).up (H.ne (i := 6) (i' := 4) ⟨k0, by show k < 100; omega⟩ m (Or.inl (by decide)))⟩, dw.up (H.ne (i := 7) (i' := 4) ⟨by decide, z01⟩ m (Or.inl (by decide))), ?_⟩, ⟨i1, by omega, i3, fun r r0 r1 => pcRw_c (i4 r r0 r1) pcEr_r r0 r1 (by omega) (Int.le_refl _)⟩, ⟨fun k k0 k1 => ?_, hT⟩, hD, va_up_self _ _ _, c2, c3, c4⟩
  · by_cases h : k = na
    · subst h
      exact pcO.new.c (fun j j0 j1 => (y1 j j0 j1).symm)
    · refine ((d1 k k0 (by omega)).c (fun j j0 j1 => (y2 _ (by omega)).symm)).up (H.ne (i := 4) (i' := 4) ⟨k0, by show k < 100; omega⟩ m (Or.inr h))
  · refine (dl.c (fun r r0 r1 => ⟨pcS_c i4 E pcEr_r 300 r0 (by have := dl.1; omega) (by have := dl.1; omega), rfl⟩) dl.1.2).up (fun r r0 r1 => H.ne (i := 11) (i' := 4) ⟨by omega, by show r < 301; omega⟩ m (Or.inl (by decide)))
  · by_cases h : k = na + 1
    · subst h
      have q0 := y1 0 (by decide) (by decide)
      rw [Int.add_zero] at q0
      rw [q0, y1 1 (by decide) (by decide), y1 2 (by decide) (by decide), y1 3 (by decide) (by decide)]
      exact ⟨ht, ha, hb, rfl⟩
    · rw [y2 (4 * k) (by omega), y2 (4 * k + 1) (by omega), y2 (4 * k + 2) (by omega), y2 (4 * k + 3) (by omega)]
      exact hA k k0 (by omega)
theorem pcOK.ntr {a b c : Int} (O : pcOK kd an ai al ar mX8_rules mX8_axioms mX8_axiomCount mX8_givens mX8_givenCount mX8_wanted mX8_rows mX8_rowCount mX8_looked mX8_from mX8_needed mX8_broken mX8_places mX8_text mX8_size mX9_kind mX9_a mX9_b mX9_c mX26_rule mX26_instance mX26_premises mX26_count mX26_states mX26_right mX26_size mX10_takes mX10_name mX12_any mX14_kind mX16_kind mX18_first mX19_either A gi Ro ax na tr nt ru ins ct pr n br tx) (h100 : nt < 100) (ha : 0 ≤ a ∧ a < 1000) (hb : 0 ≤ b ∧ b < 1000) (hc : 0 ≤ c ∧ c < 1000) : pcOK kd an ai al ar mX8_rules mX8_axioms mX8_axiomCount mX8_givens (va_up mX8_givenCount (A 0 0) (nt + 1)) mX8_wanted mX8_rows mX8_rowCount mX8_looked mX8_from mX8_needed mX8_broken mX8_places mX8_text mX8_size (va_up mX9_kind (A 6 nt) 11) (va_up mX9_a (A 6 nt) a) (va_up mX9_b (A 6 nt) b) (va_up mX9_c (A 6 nt) c) mX26_rule mX26_instance mX26_premises mX26_count mX26_states mX26_right mX26_size mX10_takes mX10_name mX12_any mX14_kind mX16_kind mX18_first mX19_either A gi Ro ax na (pcLy tr (nt + 1) 11 a b c) (nt + 1) ru ins ct pr n br tx := by
  obtain ⟨⟨wa, H, ⟨d1, d2⟩, dw, dl⟩, hI, ⟨hA, hT⟩, hD, c1, c2, c3, c4⟩ := O
  obtain ⟨i1, i2, i3, i4⟩ := id hI
  have Y : pcL tr (pcLy tr (nt + 1) 11 a b c) (nt + 1) (pcM 11 a b c) := pcL_of
  obtain ⟨y1, y2⟩ := Y
  have m : 0 ≤ nt ∧ nt < pN 6 := ⟨by omega, by show nt < 100; omega⟩
  have E : pcE ax ax na tr (pcLy tr (nt + 1) 11 a b c) nt := ⟨fun _ _ _ _ _ _ => rfl, fun k k0 k1 j j0 j1 => (y2 _ (by omega)).symm⟩
  refine ⟨⟨wa, H, ⟨fun k k0 k1 => (d1 k k0 k1).up (H.ne (i := 4) (i' := 6) ⟨k0, by show k < 100; omega⟩ m (Or.inl (by decide))), fun k k0 k1 => ?_⟩, dw.up (H.ne (i := 7) (i' := 6) ⟨by decide, z01⟩ m (Or.inl (by decide))), ?_⟩, ⟨i1, i2, by omega, fun r r0 r1 => pcRw_c (i4 r r0 r1) pcEr_r r0 r1 (Int.le_refl _) (by omega)⟩, ⟨hA, fun k k0 k1 => ?_⟩, hD, c1, va_up_self _ _ _, c3, c4⟩
  · by_cases h : k = nt
    · subst h
      exact pcO.new.c (fun j j0 j1 => (y1 j j0 j1).symm)
    · refine ((d2 k k0 (by omega)).c (fun j j0 j1 => (y2 _ (by omega)).symm)).up (H.ne (i := 6) (i' := 6) ⟨k0, by show k < 100; omega⟩ m (Or.inr h))
  · refine (dl.c (fun r r0 r1 => ⟨pcS_c i4 E pcEr_r 300 r0 (by have := dl.1; omega) (by have := dl.1; omega), rfl⟩) dl.1.2).up (fun r r0 r1 => H.ne (i := 11) (i' := 6) ⟨by omega, by show r < 301; omega⟩ m (Or.inl (by decide)))
  · by_cases h : k = nt + 1
    · subst h
      have q0 := y1 0 (by decide) (by decide)
      rw [Int.add_zero] at q0
      rw [q0, y1 1 (by decide) (by decide), y1 2 (by decide) (by decide), y1 3 (by decide) (by decide)]
      exact ⟨rfl, ha, hb, hc⟩
    · rw [y2 (4 * k) (by omega), y2 (4 * k + 1) (by omega), y2 (4 * k + 2) (by omega), y2 (4 * k + 3) (by omega)]
      exact hT k k0 (by omega)
theorem pcOK.nwa {v0 v1 v2 v3 : Int} (O : pcOK kd an ai al ar mX8_rules mX8_axioms mX8_axiomCount mX8_givens mX8_givenCount mX8_wanted mX8_rows mX8_rowCount mX8_looked mX8_from mX8_needed mX8_broken mX8_places mX8_text mX8_size mX9_kind mX9_a mX9_b mX9_c mX26_rule mX26_instance mX26_premises mX26_count mX26_states mX26_right mX26_size mX10_takes mX10_name mX12_any mX14_kind mX16_kind mX18_first mX19_either A gi Ro ax na tr nt ru ins ct pr n br tx) : pcOK kd an ai al ar mX8_rules mX8_axioms mX8_axiomCount mX8_givens mX8_givenCount mX8_wanted mX8_rows mX8_rowCount mX8_looked mX8_from mX8_needed mX8_broken mX8_places mX8_text mX8_size (va_up mX9_kind (A 7 0) v0) (va_up mX9_a (A 7 0) v1) (va_up mX9_b (A 7 0) v2) (va_up mX9_c (A 7 0) v3) mX26_rule mX26_instance mX26_premises mX26_count mX26_states mX26_right mX26_size mX10_takes mX10_name mX12_any mX14_kind mX16_kind mX18_first mX19_either A gi Ro ax na tr nt ru ins ct pr n br tx := by
  obtain ⟨⟨wa, H, ⟨d1, d2⟩, dw, dl⟩, hI, hAT, hD, c⟩ := O
  obtain ⟨i1, i2, i3, i4⟩ := id hI
  have m : 0 ≤ (0 : Int) ∧ (0 : Int) < pN 7 := ⟨by decide, z01⟩
  exact ⟨⟨_, H, ⟨fun k k0 k1 => (d1 k k0 k1).up (H.ne (i := 4) (i' := 7) ⟨k0, by show k < 100; omega⟩ m (Or.inl (by decide))), fun k k0 k1 => (d2 k k0 k1).up (H.ne (i := 6) (i' := 7) ⟨k0, by show k < 100; omega⟩ m (Or.inl (by decide)))⟩, pcO.new, dl.up (fun r r0 r1 => H.ne (i := 11) (i' := 7) ⟨by omega, by show r < 301; omega⟩ m (Or.inl (by decide)))⟩, hI, hAT, hD, c⟩
theorem CPC_isTermB {P Q : Prop} {v : Int} (h1 : 0 ≤ v ∧ v < 1000 → Q) (h0 : ¬ (0 ≤ v ∧ v < 1000) → P) : wpPC_X8_isTerm (fun r => (r = 0 → P) ∧ (¬ r = 0 → Q)) v := by
  unfold wpPC_X8_isTerm
  exact ⟨fun a => ⟨fun _ => h0 (by omega), fun q => absurd rfl q⟩, fun a => ⟨fun b => ⟨fun _ => h0 (by omega), fun q => absurd rfl q⟩, fun b => ⟨fun q => absurd q (by decide), fun _ => h1 (by omega)⟩⟩⟩
theorem CPC_isRowB {P Q : Prop} {v : Int} (e : mX8_rowCount (A 0 0) = n) (h1 : 1 ≤ v ∧ v ≤ n → Q) (h0 : ¬ (1 ≤ v ∧ v ≤ n) → P) : wpPC_X8_isRow (fun r => (r = 0 → P) ∧ (¬ r = 0 → Q)) mX8_rowCount (A 0 0) v := by
  unfold wpPC_X8_isRow
  rw [e]
  exact ⟨fun a => ⟨fun _ => h0 (by omega), fun q => absurd rfl q⟩, fun a => ⟨fun b => ⟨fun _ => h0 (by omega), fun q => absurd rfl q⟩, fun b => ⟨fun q => absurd q (by decide), fun _ => h1 (by omega)⟩⟩⟩
theorem CPC_aloneB {P Q : Prop} {t : Int} (h1 : pcSg t → Q) (h0 : ¬ pcSg t → P) : wpPC_X8_isAlone (fun r => (r = 0 → P) ∧ (¬ r = 0 → Q)) t := by
  unfold wpPC_X8_isAlone
  unfold pcSg at h1 h0
  exact ⟨fun a => ⟨fun q => absurd q (by decide), fun _ => h1 (by omega)⟩, fun a => ⟨fun b => ⟨fun q => absurd q (by decide), fun _ => h1 (by omega)⟩, fun b => ⟨fun c => ⟨fun q => absurd q (by decide), fun _ => h1 (by omega)⟩, fun c => ⟨fun _ => h0 (by omega), fun q => absurd rfl q⟩⟩⟩⟩
theorem CPC_axiom {post : Int → (Nat → Int) → (Nat → Int) → (Nat → Int) → (Nat → Int) → (Nat → Int) → Prop} {t a b : Int} (O : pcOK kd an ai al ar mX8_rules mX8_axioms mX8_axiomCount mX8_givens mX8_givenCount mX8_wanted mX8_rows mX8_rowCount mX8_looked mX8_from mX8_needed mX8_broken mX8_places mX8_text mX8_size mX9_kind mX9_a mX9_b mX9_c mX26_rule mX26_instance mX26_premises mX26_count mX26_states mX26_right mX26_size mX10_takes mX10_name mX12_any mX14_kind mX16_kind mX18_first mX19_either A gi Ro ax na tr nt ru ins ct pr n br tx) (h2 : ¬ pcAok t a b → post (-2) mX8_axiomCount mX9_kind mX9_a mX9_b mX9_c) (h4 : pcAok t a b → na = 100 → post (-4) mX8_axiomCount mX9_kind mX9_a mX9_b mX9_c) (h1 : pcAok t a b → na ≠ 100 → ∀ c, (pcSg t → c = 0) → (¬ pcSg t → c = b) → ∀ ac k a' b' c', pcOK kd an ai al ar mX8_rules mX8_axioms ac mX8_givens mX8_givenCount mX8_wanted mX8_rows mX8_rowCount mX8_looked mX8_from mX8_needed mX8_broken mX8_places mX8_text mX8_size k (a') (b') (c') mX26_rule mX26_instance mX26_premises mX26_count mX26_states mX26_right mX26_size mX10_takes mX10_name mX12_any mX14_kind mX16_kind mX18_first mX19_either A gi Ro (pcLy ax (na + 1) t a c 0) (na + 1) tr nt ru ins ct pr n br tx → post (na + 1) ac k a' b' c') : wpPC_X8_axiom post kd an ar mX8_axioms mX8_axiomCount mX9_kind mX9_a mX9_b mX9_c (A 0 0) t a b := by
  obtain ⟨⟨wa, H, -⟩, hI, -, -, c1, -⟩ := id O
  obtain ⟨-, s2, -, s4, -⟩ := id H
  obtain ⟨i1, i2, i3, i4⟩ := id hI
  have k3 : kd (A 3 0) = 22 := H.k 3 0 (by decide) z01
  have l3 : an (A 3 0) = 100 := H.l 3 0 (by decide) z01 (by decide)
  have tail : pcAok t a b → wPC_X8_axiom_35 post (A 0 0) t a b kd an ar mX8_axioms mX8_axiomCount mX9_kind mX9_a mX9_b mX9_c := fun w => by
    unfold wPC_X8_axiom_35
    rw [c1]
    refine ⟨fun e => h4 w e, fun e => kOn_of s2.2.1 ⟨k3, by rw [l3]; omega, fun r13 e13 => ?_⟩⟩
    have k4 : kd (A 4 na) = 2 := H.k 4 na (by omega) (by show na < 100; omega)
    have e4 := (s4 na (by omega) (by omega)).1
    rw [e4] at e13
    subst e13
    refine CPC_aloneB (fun g => kOn_some ⟨k4, ?_⟩) (fun g => kOn_some ⟨k4, ?_⟩)
    · intro _ e1 _ e2 _ e3 _ e4
      subst e1 e2 e3 e4
      refine ⟨by omega, fun _ e5 _ e6 => ?_⟩
      subst e5
      subst e6
      rw [va_up_self]
      exact h1 w e 0 (fun _ => rfl) (fun q => absurd g q) _ _ _ _ _ (O.nax (by omega) w.1 w.2.1 (by decide))
    · intro _ e1 _ e2 _ e3 _ e4
      subst e1 e2 e3 e4
      refine ⟨by omega, fun _ e5 _ e6 => ?_⟩
      subst e5
      subst e6
      rw [va_up_self]
      exact h1 w e b (fun q => absurd q g) (fun _ => rfl) _ _ _ _ _ (O.nax (by omega) w.1 w.2.1 (w.2.2.resolve_left g))
  unfold wpPC_X8_axiom
  refine ⟨fun z => h2 (fun w => by have := w.1; omega), fun z => ⟨fun z2 => h2 (fun w => by have := w.1; omega), fun z2 => CPC_isTermB (fun ta => CPC_aloneB (fun g => tail ⟨by omega, ta, Or.inl g⟩) (fun g => CPC_isTermB (fun tb => tail ⟨by omega, ta, Or.inr tb⟩) (fun tb => h2 (fun w => w.2.2.elim g tb)))) (fun ta => h2 (fun w => ta w.2.1))⟩⟩
theorem CPC_is {P Q : Prop} {o o' : Nat} {f g : Int → Int} {w : Option Nat} (ew : w = some o') (k : kd o' = 2) (h : pcO mX9_kind mX9_a mX9_b mX9_c o f) (h' : pcO mX9_kind mX9_a mX9_b mX9_c o' g) (h1 : (∀ j, 0 ≤ j → j < 4 → f j = g j) → Q) (h0 : ¬ (∀ j, 0 ≤ j → j < 4 → f j = g j) → P) : wpPC_X9_is (fun r => (r = 0 → P) ∧ (¬ r = 0 → Q)) kd mX9_kind mX9_a mX9_b mX9_c o w := by
  subst ew
  unfold wpPC_X9_is
  refine kOn_some ⟨k, ?_⟩
  obtain ⟨a0, a1, a2, a3⟩ := h
  obtain ⟨b0, b1, b2, b3⟩ := h'
  rw [a0, a1, a2, a3, b0, b1, b2, b3]
  refine ⟨fun e0 => ⟨fun e1 => ⟨fun e2 => ⟨fun e3 => ⟨fun q => absurd q (by decide), fun _ => h1 (fun j j0 j1 => ?_)⟩, fun e3 => ⟨fun _ => h0 (fun w => e3 (w 3 (by decide) (by decide))), fun q => absurd rfl q⟩⟩, fun e2 => ⟨fun _ => h0 (fun w => e2 (w 2 (by decide) (by decide))), fun q => absurd rfl q⟩⟩, fun e1 => ⟨fun _ => h0 (fun w => e1 (w 1 (by decide) (by decide))), fun q => absurd rfl q⟩⟩, fun e0 => ⟨fun _ => h0 (fun w => e0 (w 0 (by decide) (by decide))), fun q => absurd rfl q⟩⟩
  have : j = 0 ∨ j = 1 ∨ j = 2 ∨ j = 3 := by omega
  rcases this with rfl | rfl | rfl | rfl
  · exact e0
  · exact e1
  · exact e2
  · exact e3
theorem CPC_triple {post : Int → (Nat → Int) → (Nat → Int) → (Nat → Int) → (Nat → Int) → (Nat → Int) → Prop} {a b c : Int} (O : pcOK kd an ai al ar mX8_rules mX8_axioms mX8_axiomCount mX8_givens mX8_givenCount mX8_wanted mX8_rows mX8_rowCount mX8_looked mX8_from mX8_needed mX8_broken mX8_places mX8_text mX8_size mX9_kind mX9_a mX9_b mX9_c mX26_rule mX26_instance mX26_premises mX26_count mX26_states mX26_right mX26_size mX10_takes mX10_name mX12_any mX14_kind mX16_kind mX18_first mX19_either A gi Ro ax na tr nt ru ins ct pr n br tx) (h2 : ¬ pcTok a b c → post (-2) mX8_givenCount mX9_kind mX9_a mX9_b mX9_c) (hf : pcTok a b c → ∀ k, 1 ≤ k → k ≤ nt → pcTk tr a b c k → (∀ j, 1 ≤ j → j < k → ¬ pcTk tr a b c j) → ∀ mk ma mb mc, pcOK kd an ai al ar mX8_rules mX8_axioms mX8_axiomCount mX8_givens mX8_givenCount mX8_wanted mX8_rows mX8_rowCount mX8_looked mX8_from mX8_needed mX8_broken mX8_places mX8_text mX8_size mk ma mb mc mX26_rule mX26_instance mX26_premises mX26_count mX26_states mX26_right mX26_size mX10_takes mX10_name mX12_any mX14_kind mX16_kind mX18_first mX19_either A gi Ro ax na tr nt ru ins ct pr n br tx → post k mX8_givenCount mk ma mb mc) (h4 : pcTok a b c → (∀ j, 1 ≤ j → j ≤ nt → ¬ pcTk tr a b c j) → nt = 100 → ∀ mk ma mb mc, pcOK kd an ai al ar mX8_rules mX8_axioms mX8_axiomCount mX8_givens mX8_givenCount mX8_wanted mX8_rows mX8_rowCount mX8_looked mX8_from mX8_needed mX8_broken mX8_places mX8_text mX8_size mk ma mb mc mX26_rule mX26_instance mX26_premises mX26_count mX26_states mX26_right mX26_size mX10_takes mX10_name mX12_any mX14_kind mX16_kind mX18_first mX19_either A gi Ro ax na tr nt ru ins ct pr n br tx → post (-4) mX8_givenCount mk ma mb mc) (h1 : pcTok a b c → (∀ j, 1 ≤ j → j ≤ nt → ¬ pcTk tr a b c j) → nt ≠ 100 → ∀ gc mk ma mb mc, pcOK kd an ai al ar mX8_rules mX8_axioms mX8_axiomCount mX8_givens gc mX8_wanted mX8_rows mX8_rowCount mX8_looked mX8_from mX8_needed mX8_broken mX8_places mX8_text mX8_size mk ma mb mc mX26_rule mX26_instance mX26_premises mX26_count mX26_states mX26_right mX26_size mX10_takes mX10_name mX12_any mX14_kind mX16_kind mX18_first mX19_either A gi Ro ax na (pcLy tr (nt + 1) 11 a b c) (nt + 1) ru ins ct pr n br tx → post (nt + 1) gc mk ma mb mc) : wpPC_X8_triple post kd an ar mX8_givens mX8_givenCount mX8_wanted mX9_kind mX9_a mX9_b mX9_c (A 0 0) a b c := by
  unfold wpPC_X8_triple
  refine CPC_isTermB (fun ta => CPC_isTermB (fun tb => CPC_isTermB (fun tc => ?_) (fun w => h2 (fun q => w q.2.2))) (fun w => h2 (fun q => w q.2.1))) (fun w => h2 (fun q => w q.1))
  have T : pcTok a b c := ⟨ta, tb, tc⟩
  have O2 := O.nwa (v0 := 11) (v1 := a) (v2 := b) (v3 := c)
  obtain ⟨⟨wa, H, -⟩, hI, -⟩ := id O
  obtain ⟨-, s2, -, s4, -⟩ := id H
  obtain ⟨⟨wa2, H2, ⟨d1, d2⟩, dw, dl⟩, -, ⟨hA, hT⟩, hD, c1, c2, c3⟩ := id O2
  obtain ⟨i1, i2, i3, i4⟩ := id hI
  have k7 : kd (A 7 0) = 2 := H.k 7 0 (by decide) z01
  have k5 : kd (A 5 0) = 22 := H.k 5 0 (by decide) z01
  have l5 : an (A 5 0) = 100 := H.l 5 0 (by decide) z01 (by decide)
  refine kOn_of s2.2.2.2.1 ⟨k7, ?_⟩
  intro mk e1 ma e2 mb e3 mc e4
  have dn : pcO mk ma mb mc (A 7 0) (pcM 11 a b c) := by subst e1 e2 e3 e4; exact pcO.new
  rw [← e1, ← e2, ← e3, ← e4] at O2 d2
  have tk : ∀ k, 0 ≤ k → k < nt → ((∀ j, 0 ≤ j → j < 4 → tr (4 * (k + 1) + j) = pcM 11 a b c j) ↔ pcTk tr a b c (k + 1)) := fun k k0 k1 => by
    have q := hT (k + 1) (by omega) (by omega)
    constructor
    · intro w; exact ⟨w 1 (by decide) (by decide), w 2 (by decide) (by decide), w 3 (by decide) (by decide)⟩
    · intro w j j0 j1
      have : j = 0 ∨ j = 1 ∨ j = 2 ∨ j = 3 := by omega
      rcases this with rfl | rfl | rfl | rfl
      · rw [Int.add_zero]; exact q.1
      · exact w.1
      · exact w.2.1
      · exact w.2.2
  clear e1 e2 e3 e4
  refine zl1 (fun m x => wPC_X8_triple_39 _ _ (A 0 0) kd an ar mX8_givens mX8_givenCount mX8_wanted mk ma mb mc m x) (fun x => 0 ≤ x ∧ ∀ j, 1 ≤ j → j < x + 1 → ¬ pcTk tr a b c j) nt ?_ ⟨by decide, fun j a b => by omega⟩ (by omega)
  intro m x ⟨x0, hno⟩ hx ih
  rw [wPC_X8_triple_39]
  refine ⟨fun z => ?_, fun z => kOn_of s2.2.2.1 ⟨k5, by rw [l5]; omega, fun r21 e21 => ?_⟩⟩
  · have none : ∀ j, 1 ≤ j → j ≤ nt → ¬ pcTk tr a b c j := fun j a b => hno j a (by omega)
    refine ⟨fun e => h4 T none (by omega) _ _ _ _ O2, fun e => kOn_of s2.2.2.1 ⟨k5, by rw [l5]; omega, fun r37 e37 => ?_⟩⟩
    rw [c2, (s4 nt (by omega) (by omega)).2] at e37
    subst e37
    refine kOn_some ⟨H.k 6 nt (by omega) (by show nt < 100; omega), ?_⟩
    unfold wpPC_X9_copy
    refine kOn_of s2.2.2.2.1 ⟨k7, ?_⟩
    rw [dn.1, dn.2.1, dn.2.2.1, dn.2.2.2]
    intro _ e1 _ e2 _ e3 _ e4
    subst e1 e2 e3 e4
    rw [c2]
    refine ⟨by omega, fun _ e5 _ e6 => ?_⟩
    subst e5
    subst e6
    rw [va_up_self]
    exact h1 T none (by omega) _ _ _ _ _ (O2.ntr (by omega) ta tb tc)
  · rw [(s4 x (by omega) (by omega)).2] at e21
    subst e21
    refine kOn_some ⟨H.k 6 x (by omega) (by show x < 100; omega), ?_⟩
    refine CPC_is s2.2.2.2.1 k7 (d2 x (by omega) (by omega)) dn (fun w => ⟨by omega, hf T (x + 1) (by omega) (by omega) ((tk x (by omega) (by omega)).mp w) (fun j a b => hno j a b) _ _ _ _ O2⟩) (fun w => ⟨by omega, fun x2 e => ?_⟩)
    rw [e]
    refine ih (by omega) ⟨by omega, fun j a b => ?_⟩
    by_cases h : j = x + 1
    · subst h; exact fun q => w ((tk x (by omega) (by omega)).mpr q)
    · exact hno j a (by omega)
end
