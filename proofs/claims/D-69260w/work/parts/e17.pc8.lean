/-! ProofChecker (room PC): size, states, concludes, rows, check -/
section
variable {kd : Nat → Nat} {an : Nat → Nat} {ai : Nat → Int → Int} {al : Nat → Int → Int} {ar : Nat → Int → Option Nat} {mX8_rules : Nat → Option Nat} {mX8_axioms : Nat → Option Nat} {mX8_axiomCount : Nat → Int} {mX8_givens : Nat → Option Nat} {mX8_givenCount : Nat → Int} {mX8_wanted : Nat → Option Nat} {mX8_rows : Nat → Option Nat} {mX8_rowCount : Nat → Int} {mX8_looked : Nat → Int} {mX8_from : Nat → Option Nat} {mX8_needed : Nat → Option Nat} {mX8_broken : Nat → Int} {mX8_places : Nat → Option Nat} {mX8_text : Nat → Option Nat} {mX8_size : Nat → Int} {mX9_kind : Nat → Int} {mX9_a : Nat → Int} {mX9_b : Nat → Int} {mX9_c : Nat → Int} {mX26_rule : Nat → Int} {mX26_instance : Nat → Int} {mX26_premises : Nat → Option Nat} {mX26_count : Nat → Int} {mX26_states : Nat → Option Nat} {mX26_right : Nat → Int} {mX26_size : Nat → Int} {mX10_takes : Nat → Int} {mX10_name : Nat → Option Nat} {mX12_any : Nat → Int} {mX14_kind : Nat → Int} {mX16_kind : Nat → Int} {mX18_first : Nat → Int} {mX19_either : Nat → Int} {A : Nat → Int → Nat} {gi : Nat → Nat × Int} {Ro : Int → Nat} {ax tr ru ins ct pr : Int → Int} {na nt n br root : Int} {tx : List Int}
theorem CPC_lookO {post : (Nat → Int → Option Nat) → (Nat → Int) → (Nat → Int) → (Nat → Int) → (Nat → Int) → (Nat → Int) → (Nat → Int) → (Nat → Int) → Prop} {x1 : Int} (O : pcOK kd an ai al ar mX8_rules mX8_axioms mX8_axiomCount mX8_givens mX8_givenCount mX8_wanted mX8_rows mX8_rowCount mX8_looked mX8_from mX8_needed mX8_broken mX8_places mX8_text mX8_size mX9_kind mX9_a mX9_b mX9_c mX26_rule mX26_instance mX26_premises mX26_count mX26_states mX26_right mX26_size mX10_takes mX10_name mX12_any mX14_kind mX16_kind mX18_first mX19_either A gi Ro ax na tr nt ru ins ct pr n br tx) (hx : x1 ≤ n) (hp : ∀ ar' lo ki a b c ri sz, pcOK kd an ai al (ar') mX8_rules mX8_axioms mX8_axiomCount mX8_givens mX8_givenCount mX8_wanted mX8_rows mX8_rowCount lo mX8_from mX8_needed mX8_broken mX8_places mX8_text mX8_size ki a b c mX26_rule mX26_instance mX26_premises mX26_count mX26_states ri sz mX10_takes mX10_name mX12_any mX14_kind mX16_kind mX18_first mX19_either A gi Ro ax na tr nt ru ins ct pr n br tx → x1 ≤ lo (A 0 0) → post ar' lo ki a b c ri sz) : wpPC_X8_look post kd an ai ar mX8_rules mX8_axioms mX8_givens mX8_rows mX8_looked mX8_from mX9_kind mX9_a mX9_b mX9_c mX26_rule mX26_instance mX26_premises mX26_count mX26_states mX26_right mX26_size mX10_takes mX12_any mX14_kind mX16_kind mX18_first mX19_either (A 0 0) x1 := by
  obtain ⟨⟨wa, J⟩, hI, hAT, hD, c⟩ := O
  exact CPC_look J hI hAT.1 hAT.2 hD hx (fun ar' lo ki a b c' ri sz J' hl => hp _ _ _ _ _ _ _ _ ⟨⟨wa, J'⟩, hI, hAT, hD, c⟩ hl)
theorem CPC_size {post : Int → (Nat → Int → Option Nat) → (Nat → Int) → (Nat → Int) → (Nat → Int) → (Nat → Int) → (Nat → Int) → (Nat → Int) → (Nat → Int) → Prop} (O : pcOK kd an ai al ar mX8_rules mX8_axioms mX8_axiomCount mX8_givens mX8_givenCount mX8_wanted mX8_rows mX8_rowCount mX8_looked mX8_from mX8_needed mX8_broken mX8_places mX8_text mX8_size mX9_kind mX9_a mX9_b mX9_c mX26_rule mX26_instance mX26_premises mX26_count mX26_states mX26_right mX26_size mX10_takes mX10_name mX12_any mX14_kind mX16_kind mX18_first mX19_either A gi Ro ax na tr nt ru ins ct pr n br tx) (hp : ∀ ar' lo ki a b c ri sz, pcOK kd an ai al (ar') mX8_rules mX8_axioms mX8_axiomCount mX8_givens mX8_givenCount mX8_wanted mX8_rows mX8_rowCount lo mX8_from mX8_needed mX8_broken mX8_places mX8_text mX8_size ki a b c mX26_rule mX26_instance mX26_premises mX26_count mX26_states ri sz mX10_takes mX10_name mX12_any mX14_kind mX16_kind mX18_first mX19_either A gi Ro ax na tr nt ru ins ct pr n br tx → post (pcSize ct pr n root) ar' lo ki a b c ri sz) : wpPC_X8_size post kd an ai ar mX8_rules mX8_axioms mX8_givens mX8_rows mX8_rowCount mX8_looked mX8_from mX9_kind mX9_a mX9_b mX9_c mX26_rule mX26_instance mX26_premises mX26_count mX26_states mX26_right mX26_size mX10_takes mX12_any mX14_kind mX16_kind mX18_first mX19_either (A 0 0) root := by
  have hn := O.2.1.1
  unfold wpPC_X8_size
  unfold pcSize at hp
  refine CPC_isRowB O.2.2.2.2.2.2.1 (fun hr => CPC_lookO O hr.2 (fun ar' lo ki a b c ri sz O' hl => ?_)) (fun hr => by rw [if_neg hr] at hp; exact hp _ _ _ _ _ _ _ _ O)
  rw [if_pos hr] at hp
  have g := hp _ _ _ _ _ _ _ _ O'
  obtain ⟨⟨wa, H, -, -, dl⟩, -⟩ := O'
  obtain ⟨-, s2, -, -, s5⟩ := id H
  refine kOn_of s2.2.2.2.2.1 ⟨H.k 8 0 (by decide) z01, by rw [H.l 8 0 (by decide) z01 (by decide)]; show 0 ≤ root ∧ root < (301 : Int); omega, fun r16 e16 => ?_⟩
  rw [(s5 root (by omega) (by omega)).1] at e16
  subst e16
  refine kOn_some ⟨H.k 9 _ (by omega) (by show root < 301; omega), ?_⟩
  rw [(dl.2 root hr.1 hl).2.1]
  exact g
theorem CPC_states {post : Int → (Nat → Int → Option Nat) → (Nat → Int) → (Nat → Int) → (Nat → Int) → (Nat → Int) → (Nat → Int) → (Nat → Int) → (Nat → Int) → Prop} {w : Int} (O : pcOK kd an ai al ar mX8_rules mX8_axioms mX8_axiomCount mX8_givens mX8_givenCount mX8_wanted mX8_rows mX8_rowCount mX8_looked mX8_from mX8_needed mX8_broken mX8_places mX8_text mX8_size mX9_kind mX9_a mX9_b mX9_c mX26_rule mX26_instance mX26_premises mX26_count mX26_states mX26_right mX26_size mX10_takes mX10_name mX12_any mX14_kind mX16_kind mX18_first mX19_either A gi Ro ax na tr nt ru ins ct pr n br tx) (hp : ∀ ar' lo ki a b c ri sz, pcOK kd an ai al (ar') mX8_rules mX8_axioms mX8_axiomCount mX8_givens mX8_givenCount mX8_wanted mX8_rows mX8_rowCount lo mX8_from mX8_needed mX8_broken mX8_places mX8_text mX8_size ki a b c mX26_rule mX26_instance mX26_premises mX26_count mX26_states ri sz mX10_takes mX10_name mX12_any mX14_kind mX16_kind mX18_first mX19_either A gi Ro ax na tr nt ru ins ct pr n br tx → post (pcSta (pcS ax tr ru ins ct pr) n root w) ar' lo ki a b c ri sz) : wpPC_X8_states post kd an ai ar mX8_rules mX8_axioms mX8_givens mX8_rows mX8_rowCount mX8_looked mX8_from mX9_kind mX9_a mX9_b mX9_c mX26_rule mX26_instance mX26_premises mX26_count mX26_states mX26_right mX26_size mX10_takes mX12_any mX14_kind mX16_kind mX18_first mX19_either (A 0 0) root w := by
  have hn := O.2.1.1
  unfold wpPC_X8_states
  unfold pcSta at hp
  refine CPC_isRowB O.2.2.2.2.2.2.1 (fun hr => ⟨fun z => ?_, fun z => ⟨fun z2 => CPC_lookO O hr.2 (fun ar' lo ki a b c ri sz O' hl => ?_), fun z2 => ?_⟩⟩) (fun hr => by rw [if_neg hr] at hp; exact hp _ _ _ _ _ _ _ _ O)
  · rw [if_pos hr, if_neg (by omega)] at hp; exact hp _ _ _ _ _ _ _ _ O
  · rw [if_pos hr, if_pos (by omega)] at hp
    have g := hp _ _ _ _ _ _ _ _ O'
    obtain ⟨⟨wa, H, -, -, dl⟩, -⟩ := O'
    obtain ⟨-, s2, -, -, s5⟩ := id H
    refine kOn_of s2.2.2.2.2.1 ⟨H.k 8 0 (by decide) z01, by rw [H.l 8 0 (by decide) z01 (by decide)]; show 0 ≤ root ∧ root < (301 : Int); omega, fun r16 e16 => ?_⟩
    have S5 := s5 root (by omega) (by omega)
    rw [S5.1] at e16
    subst e16
    refine kOn_some ⟨H.k 9 _ (by omega) (by show root < 301; omega), fun x3 e3 => ?_⟩
    rw [S5.2.2] at e3
    subst e3
    have k11 : kd (A 11 root) = 2 := H.k 11 _ (by omega) (by show root < 301; omega)
    obtain ⟨d0, d1, d2, d3⟩ := (dl.2 root hr.1 hl).2.2
    refine ⟨fun e => kOn_some ⟨k11, ?_⟩, fun e => ⟨fun e1 => kOn_some ⟨k11, ?_⟩, fun e1 => ⟨fun e2 => kOn_some ⟨k11, ?_⟩, fun e2 => kOn_some ⟨k11, ?_⟩⟩⟩⟩
    · subst e; rw [d0]; exact g
    · subst e1; rw [d1]; exact g
    · subst e2; rw [d2]; exact g
    · have : w = 3 := by omega
      subst this; rw [d3]; exact g
  · rw [if_pos hr, if_neg (by omega)] at hp; exact hp _ _ _ _ _ _ _ _ O
theorem CPC_concludes {post : Int → (Nat → Int → Option Nat) → (Nat → Int) → (Nat → Int) → (Nat → Int) → (Nat → Int) → (Nat → Int) → (Nat → Int) → (Nat → Int) → Prop} {t : Int} (O : pcOK kd an ai al ar mX8_rules mX8_axioms mX8_axiomCount mX8_givens mX8_givenCount mX8_wanted mX8_rows mX8_rowCount mX8_looked mX8_from mX8_needed mX8_broken mX8_places mX8_text mX8_size mX9_kind mX9_a mX9_b mX9_c mX26_rule mX26_instance mX26_premises mX26_count mX26_states mX26_right mX26_size mX10_takes mX10_name mX12_any mX14_kind mX16_kind mX18_first mX19_either A gi Ro ax na tr nt ru ins ct pr n br tx) (h1 : pcCon (pcS ax tr ru ins ct pr) tr n nt root t → ∀ ar' lo ki a b c ri sz, pcOK kd an ai al (ar') mX8_rules mX8_axioms mX8_axiomCount mX8_givens mX8_givenCount mX8_wanted mX8_rows mX8_rowCount lo mX8_from mX8_needed mX8_broken mX8_places mX8_text mX8_size ki a b c mX26_rule mX26_instance mX26_premises mX26_count mX26_states ri sz mX10_takes mX10_name mX12_any mX14_kind mX16_kind mX18_first mX19_either A gi Ro ax na tr nt ru ins ct pr n br tx → post 1 ar' lo ki a b c ri sz) (h0 : ¬ pcCon (pcS ax tr ru ins ct pr) tr n nt root t → ∀ ar' lo ki a b c ri sz, pcOK kd an ai al (ar') mX8_rules mX8_axioms mX8_axiomCount mX8_givens mX8_givenCount mX8_wanted mX8_rows mX8_rowCount lo mX8_from mX8_needed mX8_broken mX8_places mX8_text mX8_size ki a b c mX26_rule mX26_instance mX26_premises mX26_count mX26_states ri sz mX10_takes mX10_name mX12_any mX14_kind mX16_kind mX18_first mX19_either A gi Ro ax na tr nt ru ins ct pr n br tx → post 0 ar' lo ki a b c ri sz) : wpPC_X8_concludes post kd an ai ar mX8_rules mX8_axioms mX8_givens mX8_givenCount mX8_rows mX8_rowCount mX8_looked mX8_from mX9_kind mX9_a mX9_b mX9_c mX26_rule mX26_instance mX26_premises mX26_count mX26_states mX26_right mX26_size mX10_takes mX12_any mX14_kind mX16_kind mX18_first mX19_either (A 0 0) root t := by
  have hn := O.2.1.1
  have ht := O.2.1.2.2.1
  have c2 := O.2.2.2.2.2.1
  unfold wpPC_X8_concludes
  rw [c2]
  refine CPC_isRowB O.2.2.2.2.2.2.1 (fun hr => ⟨fun z => h0 (fun w => by have := w.1.2; omega) _ _ _ _ _ _ _ _ O, fun z => ⟨fun z2 => CPC_lookO O hr.2 (fun ar' lo ki a b c ri sz O' hl => ?_), fun z2 => h0 (fun w => by have := w.1.2; omega) _ _ _ _ _ _ _ _ O⟩⟩) (fun hr => h0 (fun w => hr w.1.1) _ _ _ _ _ _ _ _ O)
  obtain ⟨⟨wa, H, ⟨-, d2⟩, -, dl⟩, hI, hAT, -⟩ := id O'
  obtain ⟨-, s2, -, s4, s5⟩ := id H
  have S5 := s5 root (by omega) (by omega)
  have k9 : kd (A 9 root) = 3 := H.k 9 _ (by omega) (by show root < 301; omega)
  have D := dl.2 root hr.1 hl
  have T := d2 (t - 1) (by omega) (by omega)
  have T11 := hAT.2 t (by omega) (by omega)
  refine kOn_of s2.2.2.2.2.1 ⟨H.k 8 0 (by decide) z01, by rw [H.l 8 0 (by decide) z01 (by decide)]; show 0 ≤ root ∧ root < (301 : Int); omega, fun r16 e16 => ?_⟩
  rw [S5.1] at e16
  subst e16
  refine kOn_some ⟨k9, fun e => h0 (fun w => ?_) _ _ _ _ _ _ _ _ O', fun e r22 e22 => ?_⟩
  · rw [D.1] at e
    by_cases c : pcS ax tr ru ins ct pr root 0 = 0
    · have := w.2 0 (by decide) (by decide)
      rw [Int.add_zero] at this
      omega
    · rw [if_neg c] at e; exact absurd e (by decide)
  · rw [S5.1] at e22
    subst e22
    refine kOn_some ⟨k9, kOn_of s2.2.2.1 ⟨H.k 5 0 (by decide) z01, by rw [H.l 5 0 (by decide) z01 (by decide)]; show 0 ≤ t - 1 ∧ t - 1 < (100 : Int); omega, by omega, fun r31 e31 => kOn_of S5.2.2 ⟨H.k 11 _ (by omega) (by show root < 301; omega), ?_⟩⟩⟩
    rw [(s4 (t - 1) (by omega) (by omega)).2] at e31
    rw [Int.sub_add_cancel] at T
    exact CPC_is e31 (H.k 6 _ (by omega) (by show t - 1 < (100 : Int); omega)) D.2.2 T (fun w => h1 ⟨⟨hr, by omega⟩, w⟩ _ _ _ _ _ _ _ _ O') (fun w => h0 (fun q => w q.2) _ _ _ _ _ _ _ _ O')
theorem pcOK.nai {f : Int → Int} (O : pcOK kd an ai al ar mX8_rules mX8_axioms mX8_axiomCount mX8_givens mX8_givenCount mX8_wanted mX8_rows mX8_rowCount mX8_looked mX8_from mX8_needed mX8_broken mX8_places mX8_text mX8_size mX9_kind mX9_a mX9_b mX9_c mX26_rule mX26_instance mX26_premises mX26_count mX26_states mX26_right mX26_size mX10_takes mX10_name mX12_any mX14_kind mX16_kind mX18_first mX19_either A gi Ro ax na tr nt ru ins ct pr n br tx) : pcOK kd an (va_up ai (A 13 0) f) al ar mX8_rules mX8_axioms mX8_axiomCount mX8_givens mX8_givenCount mX8_wanted mX8_rows mX8_rowCount mX8_looked mX8_from mX8_needed mX8_broken mX8_places mX8_text mX8_size mX9_kind mX9_a mX9_b mX9_c mX26_rule mX26_instance mX26_premises mX26_count mX26_states mX26_right mX26_size mX10_takes mX10_name mX12_any mX14_kind mX16_kind mX18_first mX19_either A gi Ro ax na tr nt ru ins ct pr n br tx := by
  obtain ⟨⟨wa, H, J⟩, hI, hAT, hD, c1, c2, c3, c4, c5⟩ := O
  have hn := hI.1
  refine ⟨⟨wa, H, J⟩, hI, hAT, fun q a b => ⟨(hD q a b).1, fun i i0 i1 => ?_⟩, c1, c2, c3, c4, by rw [va_up_ne _ _ (H.ne (i := 15) (i' := 13) ⟨by decide, z01⟩ ⟨by decide, z01⟩ (Or.inl (by decide)))]; exact c5⟩
  rw [va_up_ne _ _ (H.ne (i := 10) (i' := 13) ⟨by omega, by show q < 301; omega⟩ ⟨by decide, z01⟩ (Or.inl (by decide)))]
  exact (hD q a b).2 i i0 i1
theorem pcOK.nbr {v : Int} (O : pcOK kd an ai al ar mX8_rules mX8_axioms mX8_axiomCount mX8_givens mX8_givenCount mX8_wanted mX8_rows mX8_rowCount mX8_looked mX8_from mX8_needed mX8_broken mX8_places mX8_text mX8_size mX9_kind mX9_a mX9_b mX9_c mX26_rule mX26_instance mX26_premises mX26_count mX26_states mX26_right mX26_size mX10_takes mX10_name mX12_any mX14_kind mX16_kind mX18_first mX19_either A gi Ro ax na tr nt ru ins ct pr n br tx) : pcOK kd an ai al ar mX8_rules mX8_axioms mX8_axiomCount mX8_givens mX8_givenCount mX8_wanted mX8_rows mX8_rowCount mX8_looked mX8_from mX8_needed (va_up mX8_broken (A 0 0) v) mX8_places mX8_text mX8_size mX9_kind mX9_a mX9_b mX9_c mX26_rule mX26_instance mX26_premises mX26_count mX26_states mX26_right mX26_size mX10_takes mX10_name mX12_any mX14_kind mX16_kind mX18_first mX19_either A gi Ro ax na tr nt ru ins ct pr n v tx := by
  obtain ⟨J, hI, hAT, hD, c1, c2, c3, -, c5⟩ := O
  exact ⟨J, hI, hAT, hD, c1, c2, c3, va_up_self _ _ _, c5⟩
theorem CPC_need {post : Int → (Nat → Int → Int) → Prop} (O : pcOK kd an ai al ar mX8_rules mX8_axioms mX8_axiomCount mX8_givens mX8_givenCount mX8_wanted mX8_rows mX8_rowCount mX8_looked mX8_from mX8_needed mX8_broken mX8_places mX8_text mX8_size mX9_kind mX9_a mX9_b mX9_c mX26_rule mX26_instance mX26_premises mX26_count mX26_states mX26_right mX26_size mX10_takes mX10_name mX12_any mX14_kind mX16_kind mX18_first mX19_either A gi Ro ax na tr nt ru ins ct pr n br tx) (hr : 1 ≤ root ∧ root ≤ n) (hp : ∀ f, (∀ r, 1 ≤ r → r ≤ n → (¬ f r = 0 ↔ pcNd ct pr root r)) → post (pcCt ct pr root root.toNat) (va_up ai (A 13 0) f)) : wpPC_X8_need post kd an ai ar mX8_rows mX8_rowCount mX8_needed mX26_premises mX26_count (A 0 0) root := by
  obtain ⟨⟨wa, H, -⟩, hI, -, hD, -, -, c3, -⟩ := id O
  obtain ⟨-, s2, -, -, s5⟩ := id H
  have hn := hI.1
  have hP := hI.prm
  have k13 : kd (A 13 0) = 19 := H.k 13 0 (by decide) z01
  have l13 : an (A 13 0) = 301 := H.l 13 0 (by decide) z01 (by decide)
  have k8 : kd (A 8 0) = 23 := H.k 8 0 (by decide) z01
  have l8 : an (A 8 0) = 301 := H.l 8 0 (by decide) z01 (by decide)
  unfold wpPC_X8_need
  refine zl2 (fun m x s => wPC_X8_need_2 _ (A 0 0) root kd an mX8_rowCount mX8_needed m x s) (fun x s => 1 ≤ x ∧ ∃ f, s = va_up ai (A 13 0) f ∧ ∀ r, 1 ≤ r → r < x → (¬ f r = 0 ↔ r = root)) (n + 1) ?_ ⟨by omega, ai (A 13 0), (va_up_id rfl).symm, fun r a b => by omega⟩ (by omega)
  rintro m x s ⟨hx, f, rfl, hs⟩ hN ih
  rw [wPC_X8_need_2]
  refine ⟨fun z => ?_, fun z => ⟨fun e => kOn_of s2.2.2.2.2.2.2.1 ⟨k13, by rw [l13]; omega, fun _ e2 => ⟨by omega, fun _ e3 => ?_⟩⟩, fun e => kOn_of s2.2.2.2.2.2.2.1 ⟨k13, by rw [l13]; omega, fun _ e2 => ⟨by omega, fun _ e3 => ?_⟩⟩⟩⟩
  rotate_left
  · rw [e2, e3, va_up_self, va_up_up]
    refine ih _ (by omega) ⟨by omega, _, rfl, fun r a b => ?_⟩
    by_cases h : r = x
    · subst h; rw [updI_s]; exact ⟨fun _ => e, fun _ => by decide⟩
    · rw [updI_n h]; exact hs r a (by omega)
  · rw [e2, e3, va_up_self, va_up_up]
    refine ih _ (by omega) ⟨by omega, _, rfl, fun r a b => ?_⟩
    by_cases h : r = x
    · subst h; rw [updI_s]; exact ⟨fun w => absurd rfl w, fun w => absurd w e⟩
    · rw [updI_n h]; exact hs r a (by omega)
  rw [c3] at z
  have e : x = n + 1 := by omega
  refine wl3 (fun m c x s => wPC_X8_need_36 _ (A 0 0) kd an ar mX8_rows mX8_needed mX26_premises mX26_count m c x s) (fun c x s => (0 ≤ x ∧ x ≤ root) ∧ c = pcCt ct pr root (root - x).toNat ∧ ∃ f, s = va_up ai (A 13 0) f ∧ ∀ r, 1 ≤ r → r ≤ n → (¬ f r = 0 ↔ pcMk ct pr root (root - x).toNat r)) (fun c x s => x.toNat) ?_ 0 root _ ⟨by omega, by rw [Int.sub_self]; rfl, f, rfl, fun r a b => by rw [Int.sub_self]; exact hs r a (by omega)⟩
  clear hs ih hN hx z e
  rintro c x s ⟨hx, hc, f, rfl, hs⟩ m ih
  rw [wPC_X8_need_36]
  refine ⟨fun z => ?_, fun z => kOn_of s2.2.2.2.2.2.2.1 ⟨k13, by rw [l13]; omega, ?_⟩⟩
  · have : x = 0 := by omega
    subst this
    rw [hc, Int.sub_zero]
    rw [Int.sub_zero] at hs
    exact hp f (fun r a b => by rw [hs r a b]; rfl)
  rw [va_up_self]
  have ed : (root - (x + -1)).toNat = (root - x).toNat + 1 := by omega
  have ex : root - ((root - x).toNat : Int) = x := by omega
  have cb := pcCt_b (ct := ct) (pr := pr) (root := root) (root - x).toNat
  refine ⟨fun e => ⟨by omega, fun _ e1 => ?_⟩, fun e => ⟨by omega, fun _ e1 => kOn_of s2.2.2.2.2.1 ⟨k8, by rw [l8]; omega, fun r27 e27 => ?_⟩⟩⟩
  · have nm : ¬ pcMk ct pr root (root - x).toNat x := fun w => (hs x (by omega) (by omega)).mpr w e
    rw [e1]
    refine ih _ _ _ ⟨by omega, ?_, f, rfl, fun r a b => ?_⟩ (by omega)
    · rw [ed, pcCt, ex, pif_f nm, Int.add_zero]; exact hc
    · rw [ed, hs r a b]
      refine ⟨Or.inl, fun w => w.elim id (fun w => ?_)⟩
      rw [ex] at w; exact absurd w.1 nm
  · have S5 := s5 x (by omega) (by omega)
    rw [S5.1] at e27
    rw [e27]
    have ym : pcMk ct pr root (root - x).toNat x := (hs x (by omega) (by omega)).mp e
    have hP' := hP x (by omega) (by omega)
    have D := hD x (by omega) (by omega)
    have k10 : kd (A 10 x) = 18 := H.k 10 x (by omega) (by show x < 301; omega)
    have l10 : an (A 10 x) = 3 := H.l 10 x (by omega) (by show x < 301; omega) (by decide)
    have n13 : A 10 x ≠ A 13 0 := H.ne (i := 10) (i' := 13) ⟨by omega, by show x < 301; omega⟩ ⟨by decide, z01⟩ (Or.inl (by decide))
    refine wl2 (fun m i s => wPC_X8_need_66 _ (A 0 0) (some (A 9 x)) kd an mX8_needed mX26_premises mX26_count m i s) (fun i s' => (0 ≤ i ∧ i ≤ ct x) ∧ ∃ f, s' = va_up ai (A 13 0) f ∧ ∀ r, 1 ≤ r → r ≤ n → (¬ f r = 0 ↔ (pcMk ct pr root (root - x).toNat r ∨ ∃ j, (0 ≤ j ∧ j < i) ∧ pr (3 * x + j) = r))) (fun i s => (ct x - i).toNat) ?_ 0 _ ⟨by omega, f, rfl, fun r a b => by rw [hs r a b]; exact ⟨Or.inl, fun w => w.elim id (fun ⟨j, hj, _⟩ => by omega)⟩⟩
    rintro i s' ⟨hi, f', rfl, hs'⟩ m2 ih2
    rw [wPC_X8_need_66]
    refine kOn_some ⟨H.k 9 x (by omega) (by show x < 301; omega), ?_⟩
    rw [D.1.2.2]
    refine ⟨fun z2 => ⟨by omega, fun _ e2 => ?_⟩, fun z2 => kOn_of S5.2.1 ⟨k10, by rw [l10]; omega, kOn_of s2.2.2.2.2.2.2.1 ⟨k13, ?_⟩⟩⟩
    · rw [e1, e2]
      have ei : i = ct x := by omega
      subst ei
      refine ih _ _ _ ⟨by omega, by rw [ed, pcCt, ex, pif_t ym, hc], f', rfl, fun r a b => ?_⟩ (by omega)
      have eM : pcMk ct pr root ((root - x).toNat + 1) r ↔ (pcMk ct pr root (root - x).toNat r ∨ (pcMk ct pr root (root - x).toNat (root - ((root - x).toNat : Int)) ∧ ∃ i, (0 ≤ i ∧ i < ct (root - ((root - x).toNat : Int))) ∧ pr (3 * (root - ((root - x).toNat : Int)) + i) = r)) := Iff.rfl
      rw [ed, hs' r a b, eM, ex]
      exact ⟨fun w => w.elim Or.inl (fun w => Or.inr ⟨ym, w⟩), fun w => w.elim Or.inl (fun w => Or.inr w.2)⟩
    · have pb := hP'.2 i hi.1 (by omega)
      rw [va_up_ne _ _ n13, D.2 i hi.1 (by omega), l13, va_up_self, va_up_up]
      refine ⟨by omega, fun _ e2 => ⟨by omega, fun _ e3 => ?_⟩⟩
      rw [e2, e3]
      refine ih2 _ _ ⟨by omega, _, rfl, fun r a b => ?_⟩ (by omega)
      by_cases h : r = pr (3 * x + i)
      · subst h; rw [updI_s]; exact ⟨fun _ => Or.inr ⟨i, by omega, rfl⟩, fun _ => by decide⟩
      · rw [updI_n h, hs' r a b]
        refine ⟨fun w => w.elim Or.inl (fun ⟨j, hj, e⟩ => Or.inr ⟨j, by omega, e⟩), fun w => w.elim Or.inl (fun ⟨j, hj, e⟩ => Or.inr ⟨j, ?_, e⟩)⟩
        by_cases hji : j = i
        · subst hji; exact absurd e.symm h
        · omega
theorem CPC_rows {post : Int → (Nat → Int → Int) → Prop} (O : pcOK kd an ai al ar mX8_rules mX8_axioms mX8_axiomCount mX8_givens mX8_givenCount mX8_wanted mX8_rows mX8_rowCount mX8_looked mX8_from mX8_needed mX8_broken mX8_places mX8_text mX8_size mX9_kind mX9_a mX9_b mX9_c mX26_rule mX26_instance mX26_premises mX26_count mX26_states mX26_right mX26_size mX10_takes mX10_name mX12_any mX14_kind mX16_kind mX18_first mX19_either A gi Ro ax na tr nt ru ins ct pr n br tx) (hp : ∀ ai', pcOK kd an (ai') al ar mX8_rules mX8_axioms mX8_axiomCount mX8_givens mX8_givenCount mX8_wanted mX8_rows mX8_rowCount mX8_looked mX8_from mX8_needed mX8_broken mX8_places mX8_text mX8_size mX9_kind mX9_a mX9_b mX9_c mX26_rule mX26_instance mX26_premises mX26_count mX26_states mX26_right mX26_size mX10_takes mX10_name mX12_any mX14_kind mX16_kind mX18_first mX19_either A gi Ro ax na tr nt ru ins ct pr n br tx → post (pcRows ct pr n root) ai') : wpPC_X8_rows post kd an ai ar mX8_rows mX8_rowCount mX8_needed mX26_premises mX26_count (A 0 0) root := by
  unfold wpPC_X8_rows
  unfold pcRows at hp
  refine CPC_isRowB O.2.2.2.2.2.2.1 (fun hr => ?_) (fun hr => by rw [if_neg hr] at hp; exact hp _ O)
  rw [if_pos hr] at hp
  exact CPC_need O hr (fun f _ => hp _ O.nai)
end
