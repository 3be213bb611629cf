/-! ProofChecker (room PC): drop -/
section
variable {kd : Nat → Nat} {an : Nat → Nat} {ai : Nat → Int → Int} {al : Nat → Int → Int} {ar : Nat → Int → Option Nat} {mX8_rules : Nat → Option Nat} {mX8_axioms : Nat → Option Nat} {mX8_axiomCount : Nat → Int} {mX8_givens : Nat → Option Nat} {mX8_givenCount : Nat → Int} {mX8_wanted : Nat → Option Nat} {mX8_rows : Nat → Option Nat} {mX8_rowCount : Nat → Int} {mX8_looked : Nat → Int} {mX8_from : Nat → Option Nat} {mX8_needed : Nat → Option Nat} {mX8_broken : Nat → Int} {mX8_places : Nat → Option Nat} {mX8_text : Nat → Option Nat} {mX8_size : Nat → Int} {mX9_kind : Nat → Int} {mX9_a : Nat → Int} {mX9_b : Nat → Int} {mX9_c : Nat → Int} {mX26_rule : Nat → Int} {mX26_instance : Nat → Int} {mX26_premises : Nat → Option Nat} {mX26_count : Nat → Int} {mX26_states : Nat → Option Nat} {mX26_right : Nat → Int} {mX26_size : Nat → Int} {mX10_takes : Nat → Int} {mX10_name : Nat → Option Nat} {mX12_any : Nat → Int} {mX14_kind : Nat → Int} {mX16_kind : Nat → Int} {mX18_first : Nat → Int} {mX19_either : Nat → Int} {A : Nat → Int → Nat} {gi : Nat → Nat × Int} {Ro : Int → Nat} {ax tr ru ins ct pr : Int → Int} {na nt n br root : Int} {tx : List Int}
theorem CPC_drop {post : Int → (Nat → Int → Int) → (Nat → Int) → (Nat → Int) → (Nat → Int) → (Nat → Int) → (Nat → Int) → (Nat → Int) → Prop} (O : pcOK kd an ai al ar mX8_rules mX8_axioms mX8_axiomCount mX8_givens mX8_givenCount mX8_wanted mX8_rows mX8_rowCount mX8_looked mX8_from mX8_needed mX8_broken mX8_places mX8_text mX8_size mX9_kind mX9_a mX9_b mX9_c mX26_rule mX26_instance mX26_premises mX26_count mX26_states mX26_right mX26_size mX10_takes mX10_name mX12_any mX14_kind mX16_kind mX18_first mX19_either A gi Ro ax na tr nt ru ins ct pr n br tx) (h0 : ¬ (1 ≤ root ∧ root ≤ n) → post (-1) ai mX8_rowCount mX8_looked mX8_broken mX26_rule mX26_instance mX26_count) (h1 : (1 ≤ root ∧ root ≤ n) → ∀ ai' rc lo bm mr mi mc, (∀ ru' ins' ct' pr', pcDp ru ins ct pr root root ru' ins' ct' pr' → pcOK kd an (ai') al ar mX8_rules mX8_axioms mX8_axiomCount mX8_givens mX8_givenCount mX8_wanted mX8_rows rc lo mX8_from mX8_needed bm mX8_places mX8_text mX8_size mX9_kind mX9_a mX9_b mX9_c mr mi mX26_premises mc mX26_states mX26_right mX26_size mX10_takes mX10_name mX12_any mX14_kind mX16_kind mX18_first mX19_either A gi Ro ax na tr nt ru' ins' ct' pr' (pcC ct pr root root) 0 tx) → post (pcC ct pr root root) ai' rc lo bm mr mi mc) : wpPC_X8_drop post kd an ai ar mX8_rows mX8_rowCount mX8_looked mX8_needed mX8_broken mX8_places mX26_rule mX26_instance mX26_premises mX26_count (A 0 0) root := by
  obtain ⟨⟨wa, H, da, dw, dl⟩, hI, hAT, hD, c1, c2, c3, c4, c5⟩ := id O
  obtain ⟨s1, s2, s3, s4, s5⟩ := id H
  have hn := hI.1
  have hP := hI.prm
  have k13 : kd (A 13 0) = 19 := H.k 13 0 (by decide) z01
  have l13 : an (A 13 0) = 301 := H.l 13 0 (by decide) z01 (by decide)
  have k14 : kd (A 14 0) = 18 := H.k 14 0 (by decide) z01
  have l14 : an (A 14 0) = 301 := H.l 14 0 (by decide) z01 (by decide)
  have k8 : kd (A 8 0) = 23 := H.k 8 0 (by decide) z01
  have l8 : an (A 8 0) = 301 := H.l 8 0 (by decide) z01 (by decide)
  have n1314 : A 13 0 ≠ A 14 0 := H.ne ⟨by decide, z01⟩ ⟨by decide, z01⟩ (Or.inl (by decide))
  unfold wpPC_X8_drop
  refine CPC_isRowB c3 (fun hr => CPC_need O hr (fun f hf => ?_)) h0
  have h1 := h1 hr
  rw [pcCt_r hP hr]
  have n9 : ∀ a b, 0 ≤ a → a < 301 → 0 ≤ b → b < 301 → a ≠ b → A 9 a ≠ A 9 b := fun a b a0 a1 b0 b1 h => H.ne (i := 9) (i' := 9) ⟨a0, a1⟩ ⟨b0, b1⟩ (Or.inr h)
  have n10 : ∀ a b, 0 ≤ a → a < 301 → 0 ≤ b → b < 301 → a ≠ b → A 10 a ≠ A 10 b := fun a b a0 a1 b0 b1 h => H.ne (i := 10) (i' := 10) ⟨a0, a1⟩ ⟨b0, b1⟩ (Or.inr h)
  have n1014 : ∀ a, 0 ≤ a → a < 301 → A 10 a ≠ A 14 0 := fun a a0 a1 => H.ne (i := 10) (i' := 14) ⟨a0, a1⟩ ⟨by decide, z01⟩ (Or.inl (by decide))
  have n1013 : ∀ a, 0 ≤ a → a < 301 → A 10 a ≠ A 13 0 := fun a a0 a1 => H.ne (i := 10) (i' := 13) ⟨a0, a1⟩ ⟨by decide, z01⟩ (Or.inl (by decide))
  have n15 : ∀ a, 0 ≤ a → a < 301 → A 15 0 ≠ A 10 a := fun a a0 a1 => H.ne (i := 15) (i' := 10) ⟨by decide, z01⟩ ⟨a0, a1⟩ (Or.inl (by decide))
  have n1514 : A 15 0 ≠ A 14 0 := H.ne ⟨by decide, z01⟩ ⟨by decide, z01⟩ (Or.inl (by decide))
  have n1513 : A 15 0 ≠ A 13 0 := H.ne ⟨by decide, z01⟩ ⟨by decide, z01⟩ (Or.inl (by decide))
  have key : ∀ (K : (Nat → Int → Int) → (Nat → Int) → (Nat → Int) → (Nat → Int) → Prop), (∀ ai' mr mi mc, ai' (A 15 0) = ai (A 15 0) → (∀ r, 1 ≤ r → r ≤ root → pcNd ct pr root r → (mr (A 9 (pcC ct pr root r)) = ru r ∧ mi (A 9 (pcC ct pr root r)) = ins r ∧ mc (A 9 (pcC ct pr root r)) = ct r) ∧ ∀ i, 0 ≤ i → i < ct r → ai' (A 10 (pcC ct pr root r)) i = pcC ct pr root (pr (3 * r + i))) → K ai' mr mi mc) →
      ∀ (d : Nat) c x ai' mr mi mc, (1 ≤ x ∧ x ≤ root + 1) → c = pcC ct pr root (x - 1) → ai' (A 13 0) = f → ai' (A 15 0) = ai (A 15 0) → (∀ r, 1 ≤ r → r < x → pcNd ct pr root r → ai' (A 14 0) r = pcC ct pr root r ∧ (mr (A 9 (pcC ct pr root r)) = ru r ∧ mi (A 9 (pcC ct pr root r)) = ins r ∧ mc (A 9 (pcC ct pr root r)) = ct r) ∧ ∀ i, 0 ≤ i → i < ct r → ai' (A 10 (pcC ct pr root r)) i = pcC ct pr root (pr (3 * r + i))) → (∀ r, x ≤ r → r ≤ n → (mr (A 9 r) = ru r ∧ mi (A 9 r) = ins r ∧ mc (A 9 r) = ct r) ∧ ∀ i, 0 ≤ i → i < ct r → ai' (A 10 r) i = pr (3 * r + i)) → (root + 1 - x).toNat < d → wPC_X8_drop_21 K (A 0 0) root kd an ar mX8_rows mX8_needed mX8_places mX26_premises d c x ai' mr mi mc := by
    intro K hK d
    induction d with
    | zero => intro _ _ _ _ _ _ _ _ _ _ _ _ h; omega
    | succ d ih =>
      intro c x ai' mr mi mc hx hc e13 e15 hL hB hd
      rw [wPC_X8_drop_21]
      have cb := pcC_b (ct := ct) (pr := pr) (root := root) (x - 1) (by omega)
      refine ⟨fun z => ?_, fun z => kOn_of s2.2.2.2.2.2.2.1 ⟨k13, by rw [l13]; omega, ?_⟩⟩
      · exact hK _ _ _ _ e15 (fun r a b w => (hL r a (by omega) w).2)
      rw [e13]
      refine ⟨fun e => ⟨by omega, fun _ e1 => ?_⟩, fun e => ⟨by omega, fun c1 ec1 => kOn_of s2.2.2.2.2.2.2.2.1 ⟨k14, by rw [l14]; omega, fun ai1 ea1 => kOn_of s2.2.2.2.2.1 ⟨k8, by rw [l8]; omega, fun r22 e22 => ?_⟩⟩⟩⟩
      · have nn : ¬ pcNd ct pr root x := fun w => (hf x hx.1 (by omega)).mpr w e
        rw [e1]
        refine ih c (x + 1) ai' mr mi mc (by omega) (by rw [show x + 1 - 1 = x by omega, pcC_f hx.1 nn]; exact hc) e13 e15 (fun r a b w => ?_) (fun r a b => hB r (by omega) b) (by omega)
        by_cases h : r = x
        · subst h; exact absurd w nn
        · exact hL r a (by omega) w
      · have nd : pcNd ct pr root x := (hf x hx.1 (by omega)).mp e
        have cx := pcC_t hx.1 nd
        have ec : c1 = pcC ct pr root x := by omega
        have Pp := hP x hx.1 (by omega)
        obtain ⟨⟨q1, q2, q3⟩, q4⟩ := hB x (Int.le_refl _) (by omega)
        rw [(s5 c1 (by omega) (by omega)).1] at e22
        subst e22
        have k14c := n1014 c1 (by omega) (by omega)
        have go : ∀ g mr2 mi2 mc2, (∀ i, 0 ≤ i → i < ct x → g i = pr (3 * x + i)) → mr2 = va_up mr (A 9 c1) (ru x) → mi2 = va_up mi (A 9 c1) (ins x) → mc2 = va_up mc (A 9 c1) (ct x) → ∀ ai2, ai2 = va_up ai1 (A 10 c1) g → ∃ fu, wPC_X8_drop_80 (fun ai3 => zR (x + 1) ∧ (∀ x4, x4 = x + 1 → wPC_X8_drop_21 K (A 0 0) root kd an ar mX8_rows mX8_needed mX8_places mX26_premises d c1 x4 ai3 mr2 mi2 mc2)) (A 0 0) (some (A 9 c1)) kd an mX8_places mX26_premises mc2 fu 0 ai2 := by
          intro g mr2 mi2 mc2 hg em1 em2 em3 ai2 ea2
          have H2 : pcSh kd an ai2 al ar mX8_rules mX8_axioms mX8_axiomCount mX8_givens mX8_givenCount mX8_wanted mX8_rows mX8_rowCount mX8_looked mX8_from mX8_needed mX8_broken mX8_places mX8_text mX8_size mX9_kind mX9_a mX9_b mX9_c mX26_rule mX26_instance mX26_premises mc2 mX26_states mX26_right mX26_size mX10_takes mX10_name mX12_any mX14_kind mX16_kind mX18_first mX19_either A gi Ro := H
          refine CPC_d80 H2 ⟨by omega, by omega⟩ (show mc2 (A 9 c1) = ct x by rw [em3, va_up_self]) Pp.1 (fun i i0 i1 => ?_) (fun g' hg' => ⟨by omega, fun x4 e4 => ?_⟩)
          · rw [ea2, va_up_self, hg i i0 i1]
            have := Pp.2 i i0 i1
            omega
          rw [e4, ea2, va_up_up]
          have g'' : ∀ i, 0 ≤ i → i < ct x → g' i = pcC ct pr root (pr (3 * x + i)) := fun i i0 i1 => by
            have pb := Pp.2 i i0 i1
            rw [hg' i i0 i1, ea2, va_up_self, hg i i0 i1, va_up_ne _ _ (Ne.symm k14c), ea1, va_up_self, updI_n (by omega)]
            exact (hL _ pb.1 pb.2 (pcNd_pr hP hr hx.1 (by omega) nd i0 i1)).1
          refine ih c1 (x + 1) _ mr2 mi2 mc2 (by omega) (by rw [show x + 1 - 1 = x by omega]; exact ec) ?_ ?_ (fun r a b w => ?_) (fun r a b => ?_) (by omega)
          · rw [va_up_ne _ _ (Ne.symm (n1013 c1 (by omega) (by omega))), ea1, va_up_ne _ _ n1314]; exact e13
          · rw [va_up_ne _ _ (n15 c1 (by omega) (by omega)), ea1, va_up_ne _ _ n1514]; exact e15
          · by_cases h : r = x
            · subst h
              rw [← ec, em1, em2, em3, va_up_self, va_up_self, va_up_self, va_up_ne _ _ (Ne.symm k14c), va_up_self, ea1, va_up_self, updI_s]
              exact ⟨rfl, ⟨rfl, rfl, rfl⟩, g''⟩
            · have lt := pcC_lt (ct := ct) (pr := pr) (root := root) (show 0 ≤ r by omega) (show r < x by omega) nd
              have rb := pcC_b (ct := ct) (pr := pr) (root := root) r (by omega)
              obtain ⟨t0, t1, t2⟩ := hL r a (by omega) w
              have ne9 := n9 (pcC ct pr root r) c1 (by omega) (by omega) (by omega) (by omega) (by omega)
              have ne10 := n10 (pcC ct pr root r) c1 (by omega) (by omega) (by omega) (by omega) (by omega)
              rw [em1, em2, em3, va_up_ne _ _ ne9, va_up_ne _ _ ne9, va_up_ne _ _ ne9, va_up_ne _ _ (Ne.symm k14c), va_up_ne _ _ ne10, ea1, va_up_self, updI_n h, va_up_ne _ _ (n1014 _ (by omega) (by omega))]
              exact ⟨t0, t1, t2⟩
          · have ne9 := n9 r c1 (by omega) (by omega) (by omega) (by omega) (by omega)
            have ne10 := n10 r c1 (by omega) (by omega) (by omega) (by omega) (by omega)
            rw [em1, em2, em3, va_up_ne _ _ ne9, va_up_ne _ _ ne9, va_up_ne _ _ ne9, va_up_ne _ _ ne10, ea1, va_up_ne _ _ (n1014 _ (by omega) (by omega))]
            exact hB r (by omega) b
        refine ⟨fun z2 => ?_, fun z2 => ⟨by rw [l8]; omega, fun r43 e43 => kOn_some ⟨H.k 9 _ (by omega) (by show c1 < 301; omega), ?_⟩⟩⟩
        · have ecx : c1 = x := by omega
          refine go (ai1 (A 10 c1)) mr mi mc (fun i i0 i1 => ?_) (va_up_id (by rw [ecx, q1])).symm (va_up_id (by rw [ecx, q2])).symm (va_up_id (by rw [ecx, q3])).symm _ (va_up_id rfl).symm
          rw [ea1, va_up_ne _ _ k14c, ecx]
          exact q4 i i0 i1
        · rw [(s5 x (by omega) (by omega)).1] at e43
          subst e43
          have H1 : pcSh kd an ai1 al ar mX8_rules mX8_axioms mX8_axiomCount mX8_givens mX8_givenCount mX8_wanted mX8_rows mX8_rowCount mX8_looked mX8_from mX8_needed mX8_broken mX8_places mX8_text mX8_size mX9_kind mX9_a mX9_b mX9_c mr mi mX26_premises mc mX26_states mX26_right mX26_size mX10_takes mX10_name mX12_any mX14_kind mX16_kind mX18_first mX19_either A gi Ro := H
          refine CPC_take H1 ⟨by omega, by omega⟩ ⟨by omega, by omega⟩ (by omega) q3 Pp.1 (fun g hg => ?_)
          rw [q1, q2]
          refine go g _ _ _ (fun i i0 i1 => ?_) rfl rfl rfl _ rfl
          rw [hg i i0 i1, ea1, va_up_ne _ _ (n1014 _ (by omega) (by omega))]
          exact q4 i i0 i1
  refine ⟨_, key _ (fun ai' mr mi mc h15 hR rc erc lo elo bm ebm => ?_) (root + 1 - 1).toNat.succ 0 1 _ _ _ _ (by omega) rfl (va_up_self _ _ _) (va_up_ne _ _ n1513) (fun r a b => by omega) (fun r a b => ?_) (Nat.lt_succ_self _)⟩
  · refine h1 _ _ _ _ _ _ _ (fun ru' ins' ct' pr' D => ?_)
    have cb := pcC_b (ct := ct) (pr := pr) (root := root) root (by omega)
    subst erc elo ebm
    refine ⟨⟨wa, H, da, dw, ?_, fun r a b => ?_⟩, pcDp_I hI hr D, hAT, fun m m0 m1 => ?_, c1, c2, va_up_self _ _ _, va_up_self _ _ _, by rw [h15]; exact c5⟩
    · rw [va_up_self]; omega
    · rw [va_up_self] at b; omega
    · obtain ⟨r, rb, nd, e⟩ := pcDp_at hP hr root.toNat m0 (by rw [show ((root.toNat : Nat) : Int) = root by omega]; exact m1) (by omega)
      obtain ⟨⟨d1, d2, d3⟩, d4⟩ := D r rb.1 rb.2 nd
      obtain ⟨⟨r1, r2, r3⟩, r4⟩ := hR r rb.1 rb.2 nd
      rw [e] at d1 d2 d3 d4 r1 r2 r3 r4
      rw [d1, d2, d3]
      exact ⟨⟨r1, r2, r3⟩, fun i i0 i1 => by rw [d4 i i0 i1]; exact r4 i i0 i1⟩
  · have D := hD r (by omega) b
    exact ⟨D.1, fun i i0 i1 => by rw [va_up_ne _ _ (n1013 _ (by omega) (by omega))]; exact D.2 i i0 i1⟩
end
