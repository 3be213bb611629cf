/-! ProofChecker (room PC): sentences -/
theorem pcPw_l9 {pr : Int → Int} {r : Int} : ∀ i : Nat, (pcPw pr r i).length ≤ 9 * i
  | 0 => by unfold pcPw; simp
  | i + 1 => by
    have : (pcPw pr r i).length ≤ 9 * i := pcPw_l9 i
    have h : (pcPh (if i = 0 then 38 else 39)).length ≤ 6 := by split <;> decide
    have := pcNu_l (pr (3 * r + i))
    unfold pcPw
    rw [List.length_append, List.length_append]; omega
theorem pcSen_l {S : Int → Int → Int} {ru ct pr : Int → Int} {r : Int} (h : ct r ≤ 3) : (pcSen S ru ct pr r).length ≤ 200 := by
  have l1 := pcNu_l r
  have l2 := pcStm_l (S r 0) (S r 1) (S r 2) (S r 3)
  have l3 := pcPh_l (ru r).toNat
  have l4 := pcPw_l9 (pr := pr) (r := r) (ct r).toNat
  have l36 : (pcPh 36).length = 2 := by decide
  have l37 : (pcPh 37).length = 5 := by decide
  have l40 : (pcPh 40).length = 1 := by decide
  unfold pcSen
  simp only [List.length_append]
  omega
section
variable {kd : Nat → Nat} {an : Nat → Nat} {ai : Nat → Int → Int} {al : Nat → Int → Int} {ar : Nat → Int → Option Nat} {mX8_rules : Nat → Option Nat} {mX8_axioms : Nat → Option Nat} {mX8_axiomCount : Nat → Int} {mX8_givens : Nat → Option Nat} {mX8_givenCount : Nat → Int} {mX8_wanted : Nat → Option Nat} {mX8_rows : Nat → Option Nat} {mX8_rowCount : Nat → Int} {mX8_looked : Nat → Int} {mX8_from : Nat → Option Nat} {mX8_needed : Nat → Option Nat} {mX8_broken : Nat → Int} {mX8_places : Nat → Option Nat} {mX8_text : Nat → Option Nat} {mX8_size : Nat → Int} {mX9_kind : Nat → Int} {mX9_a : Nat → Int} {mX9_b : Nat → Int} {mX9_c : Nat → Int} {mX26_rule : Nat → Int} {mX26_instance : Nat → Int} {mX26_premises : Nat → Option Nat} {mX26_count : Nat → Int} {mX26_states : Nat → Option Nat} {mX26_right : Nat → Int} {mX26_size : Nat → Int} {mX10_takes : Nat → Int} {mX10_name : Nat → Option Nat} {mX12_any : Nat → Int} {mX14_kind : Nat → Int} {mX16_kind : Nat → Int} {mX18_first : Nat → Int} {mX19_either : Nat → Int} {sa : Nat → Nat} {so : kSo} {A : Nat → Int → Nat} {gi : Nat → Nat × Int} {Ro : Int → Nat} {s : Int} {t : Int → Int} {L L0 : List Int} {ax tr ru ins ct pr : Int → Int} {na nt n br root : Int} {tx : List Int}
theorem CPC_s74 {K : (Nat → Int → Int) → (Nat → Int) → Prop} {r : Int} (H : pcSh kd an ai al ar mX8_rules mX8_axioms mX8_axiomCount mX8_givens mX8_givenCount mX8_wanted mX8_rows mX8_rowCount mX8_looked mX8_from mX8_needed mX8_broken mX8_places mX8_text mX8_size mX9_kind mX9_a mX9_b mX9_c mX26_rule mX26_instance mX26_premises mX26_count mX26_states mX26_right mX26_size mX10_takes mX10_name mX12_any mX14_kind mX16_kind mX18_first mX19_either A gi Ro) (TS : pcTS sa so) (hr : 1 ≤ r ∧ r ≤ n) (hn : n ≤ 300) (hP : pcPr ct pr n) (hD : pcDr ai mX26_rule mX26_instance mX26_count A ru ins ct pr n) (B : txB t s L0) (hl : L0.length ≤ 160) (hp : ∀ t' s', txB t' s' (L0 ++ pcPw pr r (ct r).toNat) → K (va_up ai (A 15 0) t') (va_up mX8_size (A 0 0) s')) : ∃ fu, wPC_X8_sentence_74 K (A 0 0) (some (A 9 r)) kd an mX8_text mX26_premises mX26_count sa so fu 0 (va_up ai (A 15 0) t) (va_up mX8_size (A 0 0) s) := by
  obtain ⟨s1, s2, s3, s4, s5⟩ := id H
  have Pp := hP r hr.1 hr.2
  have D := hD r hr.1 hr.2
  have S5 := s5 r (by omega) (by omega)
  have k10 : kd (A 10 r) = 18 := H.k 10 r (by omega) (by show r < 301; omega)
  have l10 : an (A 10 r) = 3 := H.l 10 r (by omega) (by show r < 301; omega) (by decide)
  have n15 : A 10 r ≠ A 15 0 := H.ne (i := 10) (i' := 15) ⟨by omega, by show r < 301; omega⟩ ⟨by decide, z01⟩ (Or.inl (by decide))
  refine wl3 (fun m i u v => wPC_X8_sentence_74 K (A 0 0) (some (A 9 r)) kd an mX8_text mX26_premises mX26_count sa so m i u v) (fun i u v => (0 ≤ i ∧ i ≤ ct r) ∧ ∃ t' s', u = va_up ai (A 15 0) t' ∧ v = va_up mX8_size (A 0 0) s' ∧ txB t' s' (L0 ++ pcPw pr r i.toNat)) (fun i u v => (ct r - i).toNat) ?_ 0 _ _ ⟨by omega, t, s, rfl, rfl, by simpa [pcPw] using B⟩
  rintro i u v ⟨hi, t', s', rfl, rfl, B'⟩ m ih
  rw [wPC_X8_sentence_74]
  refine kOn_some ⟨H.k 9 r (by omega) (by show r < 301; omega), ?_⟩
  rw [D.1.2.2]
  refine ⟨fun z => ?_, fun z => ?_⟩
  · have : i = ct r := by omega
    subst this
    exact hp _ _ B'
  have pb := Pp.2 i hi.1 (by omega)
  have lw := pcPw_l9 (pr := pr) (r := r) i.toNat
  have stp : ∀ t2 s2, txB t2 s2 ((L0 ++ pcPw pr r i.toNat) ++ pcPh (if i.toNat = 0 then 38 else 39) ++ pcNu (pr (3 * r + i))) → txB t2 s2 (L0 ++ pcPw pr r (i + 1).toNat) := fun t2 s2 w => by
    rw [show (i + 1).toNat = i.toNat + 1 by omega, pcPw, show ((i.toNat : Nat) : Int) = i by omega]
    simpa only [List.append_assoc] using w
  have fin : ∀ t2 s2, txB t2 s2 ((L0 ++ pcPw pr r i.toNat) ++ pcPh (if i.toNat = 0 then 38 else 39)) → (kOn (mX26_premises (A 9 r)) (fun b => kd b = 18 ∧ ((0 ≤ i ∧ i < (an b : Int)) ∧ wpPC_X8_sayNumber (fun ai2 sz2 => zR (i + 1) ∧ ∀ x3, x3 = i + 1 → wPC_X8_sentence_74 K (A 0 0) (some (A 9 r)) kd an mX8_text mX26_premises mX26_count sa so m x3 ai2 sz2) kd an (va_up ai (A 15 0) t2) mX8_text (va_up mX8_size (A 0 0) s2) (A 0 0) (va_up ai (A 15 0) t2 b i)))) := by
    intro t2 s2 B2
    refine kOn_of S5.2.1 ⟨k10, by rw [l10]; omega, ?_⟩
    rw [va_up_ne _ _ n15, D.2 i hi.1 (by omega)]
    have h : (pcPh (if i.toNat = 0 then 38 else 39)).length ≤ 6 := by split <;> decide
    refine CPC_num H ⟨by omega, by omega⟩ B2 (by rw [List.length_append, List.length_append]; omega) (fun t3 s3 B3 => ⟨by omega, fun x3 e3 => ?_⟩)
    rw [e3]
    exact ih _ _ _ ⟨by omega, _, _, rfl, rfl, stp _ _ B3⟩ (by omega)
  refine ⟨fun e => ?_, fun e => ?_⟩
  · rw [if_pos (show i.toNat = 0 by omega)] at fin
    exact CPC_sy 286 [32, 102, 114, 111, 109, 32] (by simp [pcTl_]) TS H B' (by rw [List.length_append]; simp; omega) (fun t2 s2 B2 => fin t2 s2 B2)
  · rw [if_neg (show ¬ i.toNat = 0 by omega)] at fin
    exact CPC_sy 287 [32, 97, 110, 100, 32] (by simp [pcTl_]) TS H B' (by rw [List.length_append]; simp; omega) (fun t2 s2 B2 => fin t2 s2 B2)
theorem CPC_word {post : Option Nat → Prop} {z : Int} {o : Nat} (U : pcRu kd mX10_takes mX12_any mX14_kind mX16_kind mX18_first mX19_either z o) (hp : post (mX10_name o)) : wpDPC_X10_word_4_5_6_7_8_9_10_11_12_13_14_15_16_17 post kd mX10_name o := by
  obtain ⟨k, e⟩ := U.kk
  unfold wpDPC_X10_word_4_5_6_7_8_9_10_11_12_13_14_15_16_17 wpPC_X10_word
  simp only [hp, and_true]
  exact k
theorem pcOK.ntx {tx' : List Int} (O : pcOK kd an ai al ar mX8_rules mX8_axioms mX8_axiomCount mX8_givens mX8_givenCount mX8_wanted mX8_rows mX8_rowCount mX8_looked mX8_from mX8_needed mX8_broken mX8_places mX8_text mX8_size mX9_kind mX9_a mX9_b mX9_c mX26_rule mX26_instance mX26_premises mX26_count mX26_states mX26_right mX26_size mX10_takes mX10_name mX12_any mX14_kind mX16_kind mX18_first mX19_either A gi Ro ax na tr nt ru ins ct pr n br tx) (B : txB t s tx') : pcOK kd an (va_up ai (A 15 0) t) al ar mX8_rules mX8_axioms mX8_axiomCount mX8_givens mX8_givenCount mX8_wanted mX8_rows mX8_rowCount mX8_looked mX8_from mX8_needed mX8_broken mX8_places mX8_text (va_up mX8_size (A 0 0) s) mX9_kind mX9_a mX9_b mX9_c mX26_rule mX26_instance mX26_premises mX26_count mX26_states mX26_right mX26_size mX10_takes mX10_name mX12_any mX14_kind mX16_kind mX18_first mX19_either A gi Ro ax na tr nt ru ins ct pr n br tx' := by
  obtain ⟨⟨wa, H, J⟩, hI, hAT, hD, c1, c2, c3, c4, c5⟩ := O
  have hn := hI.1
  refine ⟨⟨wa, H, J⟩, hI, hAT, fun q a b => ⟨(hD q a b).1, fun i i0 i1 => ?_⟩, c1, c2, c3, c4, by rw [va_up_self, va_up_self]; exact B⟩
  rw [va_up_ne _ _ (H.ne (i := 10) (i' := 15) ⟨by omega, by show q < 301; omega⟩ ⟨by decide, z01⟩ (Or.inl (by decide)))]
  exact (hD q a b).2 i i0 i1
theorem CPC_sentence {post : Int → (Nat → Int → Int) → (Nat → Int → Option Nat) → (Nat → Int) → (Nat → Int) → (Nat → Int) → (Nat → Int) → (Nat → Int) → (Nat → Int) → (Nat → Int) → (Nat → Int) → Prop} (O : pcOK kd an ai al ar mX8_rules mX8_axioms mX8_axiomCount mX8_givens mX8_givenCount mX8_wanted mX8_rows mX8_rowCount mX8_looked mX8_from mX8_needed mX8_broken mX8_places mX8_text mX8_size mX9_kind mX9_a mX9_b mX9_c mX26_rule mX26_instance mX26_premises mX26_count mX26_states mX26_right mX26_size mX10_takes mX10_name mX12_any mX14_kind mX16_kind mX18_first mX19_either A gi Ro ax na tr nt ru ins ct pr n br tx) (TS : pcTS sa so) (hN : ∀ z, 0 ≤ z → z < 18 → ∃ b, mX10_name (Ro z) = some b ∧ txS so b (pcPh z.toNat)) (h0 : ¬ (1 ≤ root ∧ root ≤ n) → post (-1) ai ar mX8_looked mX8_size mX9_kind mX9_a mX9_b mX9_c mX26_right mX26_size) (h1 : (1 ≤ root ∧ root ≤ n) → ∀ ai' ar' lo sz8 ki a b c ri sz, pcOK kd an (ai') al (ar') mX8_rules mX8_axioms mX8_axiomCount mX8_givens mX8_givenCount mX8_wanted mX8_rows mX8_rowCount lo mX8_from mX8_needed mX8_broken mX8_places mX8_text sz8 ki a b c mX26_rule mX26_instance mX26_premises mX26_count mX26_states ri sz mX10_takes mX10_name mX12_any mX14_kind mX16_kind mX18_first mX19_either A gi Ro ax na tr nt ru ins ct pr n br (pcSen (pcS ax tr ru ins ct pr) ru ct pr root) → post ((pcSen (pcS ax tr ru ins ct pr) ru ct pr root).length : Nat) ai' ar' lo sz8 ki a b c ri sz) : wpPC_X8_sentence post kd an ai ar mX8_rules mX8_axioms mX8_givens mX8_rows mX8_rowCount mX8_looked mX8_from mX8_text mX8_size mX9_kind mX9_a mX9_b mX9_c mX26_rule mX26_instance mX26_premises mX26_count mX26_states mX26_right mX26_size mX10_takes mX10_name mX12_any mX14_kind mX16_kind mX18_first mX19_either sa so (A 0 0) root := by
  have hn := O.2.1.1
  unfold wpPC_X8_sentence
  refine CPC_isRowB O.2.2.2.2.2.2.1 (fun hr => CPC_lookO O hr.2 (fun ar' lo ki a b c ri sz O1 hl => ?_)) h0
  have h1 := h1 hr
  obtain ⟨⟨wa, H, da, dw, dl⟩, hI, hAT, hD, -⟩ := id O1
  obtain ⟨s1, s2, s3, s4, s5⟩ := id H
  have k8 : kd (A 8 0) = 23 := H.k 8 0 (by decide) z01
  have l8 : an (A 8 0) = 301 := H.l 8 0 (by decide) z01 (by decide)
  have k1 : kd (A 1 0) = 21 := H.k 1 0 (by decide) z01
  have l1 : an (A 1 0) = 18 := H.l 1 0 (by decide) z01 (by decide)
  have S5 := s5 root (by omega) (by omega)
  have R := hI.2.2.2 root hr.1 hr.2
  have tb := pcT_b (ru root)
  have D := hD root hr.1 hr.2
  have U := s3 (ru root) R.1.1 (by have := R.1; omega)
  have k9 : kd (A 9 root) = 3 := H.k 9 _ (by omega) (by show root < 301; omega)
  have k11 : kd (A 11 root) = 2 := H.k 11 _ (by omega) (by show root < 301; omega)
  obtain ⟨d0, d1, d2, d3⟩ := (dl.2 root hr.1 hl).2.2
  have sr := pcS_r hI hAT.1 hAT.2 300 hr.1 (by omega) hr.2
  obtain ⟨nm, en, Tn⟩ := hN (ru root) R.1.1 (by have := R.1; omega)
  have q1 := pcNu_l root
  have q2 := pcStm_l (pcS ax tr ru ins ct pr root 0) (pcS ax tr ru ins ct pr root 1) (pcS ax tr ru ins ct pr root 2) (pcS ax tr ru ins ct pr root 3)
  have q3 := pcPh_l (ru root).toNat
  have q4 := pcPw_l9 (pr := pr) (r := root) (ct root).toNat
  refine kOn_of s2.2.2.2.2.1 ⟨k8, by rw [l8]; omega, fun r16 e16 sz17 e17 => ?_⟩
  rw [S5.1] at e16
  subst e16
  subst e17
  rw [← (va_up_id rfl : va_up ai (A 15 0) (ai (A 15 0)) = ai)]
  refine CPC_num H ⟨by omega, by omega⟩ txB_nil (by decide) (fun t1 z1 B1 => ?_)
  refine CPC_sy 284 [46, 32] (by simp [pcTl_]) TS H B1 (by simp; omega) (fun t2 z2 B2 => kOn_some ⟨k9, ?_⟩)
  rw [S5.2.2]
  refine CPC_stm H TS k11 d0 d1 d2 d3 sr.1 (sr.2 1 (by decide) (by decide)) (sr.2 2 (by decide) (by decide)) (sr.2 3 (by decide) (by decide)) B2 (by simp; omega) (fun t3 z3 B3 => ?_)
  refine CPC_sy 285 [44, 32, 98, 121, 32] (by simp [pcTl_]) TS H B3 (by simp only [List.length_append, List.length_nil, List.length_cons]; omega) (fun t4 z4 B4 => kOn_of s2.1 ⟨k1, ?_⟩)
  rw [D.1.1, l1]
  refine ⟨by have := R.1; omega, fun r35 e35 => ?_⟩
  rw [U.1] at e35
  subst e35
  refine kOn_some ⟨U.2.kk.1, CPC_word U.2 ?_⟩
  rw [en]
  refine CPC_say H Tn B4 (by simp only [List.length_append, List.length_nil, List.length_cons]; omega) (fun t5 z5 B5 => ?_)
  refine CPC_s74 H TS hr (by omega) hI.prm hD B5 (by simp only [List.length_append, List.length_nil, List.length_cons]; omega) (fun t6 z6 B6 => ?_)
  refine CPC_sy 288 [46] (by simp [pcTl_]) TS H B6 (by simp only [List.length_append, List.length_nil, List.length_cons]; have := R.2.1; omega) (fun t7 z7 B7 => ?_)
  have eL : (((((([] ++ pcNu root) ++ [46, 32]) ++ pcStm (pcS ax tr ru ins ct pr root 0) (pcS ax tr ru ins ct pr root 1) (pcS ax tr ru ins ct pr root 2) (pcS ax tr ru ins ct pr root 3)) ++ [44, 32, 98, 121, 32]) ++ pcPh (ru root).toNat) ++ pcPw pr root (ct root).toNat) ++ [46] = pcSen (pcS ax tr ru ins ct pr) ru ct pr root := by
    unfold pcSen
    rw [show pcPh 36 = [46, 32] from rfl, show pcPh 37 = [44, 32, 98, 121, 32] from rfl, show pcPh 40 = [46] from rfl]
    simp only [List.append_assoc, List.nil_append]
  rw [eL] at B7
  rw [va_up_self, B7.1]
  have := h1 _ _ _ _ _ _ _ _ _ _ (O1.ntx B7)
  rw [B7.1] at this
  exact this
theorem CPC_at {post : Int → Prop} {i : Int} (O : pcOK kd an ai al ar mX8_rules mX8_axioms mX8_axiomCount mX8_givens mX8_givenCount mX8_wanted mX8_rows mX8_rowCount mX8_looked mX8_from mX8_needed mX8_broken mX8_places mX8_text mX8_size mX9_kind mX9_a mX9_b mX9_c mX26_rule mX26_instance mX26_premises mX26_count mX26_states mX26_right mX26_size mX10_takes mX10_name mX12_any mX14_kind mX16_kind mX18_first mX19_either A gi Ro ax na tr nt ru ins ct pr n br tx) (hl : tx.length ≤ 200) (hp : post (pcAt tx i)) : wpPC_X8_at post kd an ai mX8_text mX8_size (A 0 0) i := by
  obtain ⟨⟨wa, H, J⟩, -, -, -, -, -, -, -, b1, b2⟩ := id O
  unfold wpPC_X8_at
  unfold pcAt at hp
  rw [b1]
  refine ⟨fun z => ?_, fun z => ⟨fun z2 => ?_, fun z2 => kOn_of H.2.1.2.2.2.2.2.2.2.2 ⟨H.k 15 0 (by decide) z01, by rw [H.l 15 0 (by decide) z01 (by decide)]; show 0 ≤ i ∧ i < (200 : Int); omega, ?_⟩⟩⟩
  · rw [if_neg (by omega)] at hp; exact hp
  · rw [if_neg (by omega)] at hp; exact hp
  · rw [if_pos (by omega)] at hp
    have := b2 i.toNat (by omega)
    rw [show ((i.toNat : Nat) : Int) = i by omega] at this
    rw [this]
    exact hp
end
