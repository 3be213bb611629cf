/-! ProofChecker (room PC): look -/
def pcJ (kd : Nat → Nat) (an : Nat → Nat) (ai : Nat → Int → Int) (al : Nat → Int → Int) (ar : Nat → Int → Option Nat) (mX8_rules : Nat → Option Nat) (mX8_axioms : Nat → Option Nat) (mX8_axiomCount : Nat → Int) (mX8_givens : Nat → Option Nat) (mX8_givenCount : Nat → Int) (mX8_wanted : Nat → Option Nat) (mX8_rows : Nat → Option Nat) (mX8_rowCount : Nat → Int) (mX8_looked : Nat → Int) (mX8_from : Nat → Option Nat) (mX8_needed : Nat → Option Nat) (mX8_broken : Nat → Int) (mX8_places : Nat → Option Nat) (mX8_text : Nat → Option Nat) (mX8_size : Nat → Int) (mX9_kind : Nat → Int) (mX9_a : Nat → Int) (mX9_b : Nat → Int) (mX9_c : Nat → Int) (mX26_rule : Nat → Int) (mX26_instance : Nat → Int) (mX26_premises : Nat → Option Nat) (mX26_count : Nat → Int) (mX26_states : Nat → Option Nat) (mX26_right : Nat → Int) (mX26_size : Nat → Int) (mX10_takes : Nat → Int) (mX10_name : Nat → Option Nat) (mX12_any : Nat → Int) (mX14_kind : Nat → Int) (mX16_kind : Nat → Int) (mX18_first : Nat → Int) (mX19_either : Nat → Int) (A : Nat → Int → Nat) (gi : Nat → Nat × Int) (Ro : Int → Nat) (ax : Int → Int) (na : Int) (tr : Int → Int) (nt : Int) (wa : Int → Int) (S : Int → Int → Int) (ct pr : Int → Int) (n : Int) : Prop :=
  pcSh kd an ai al ar mX8_rules mX8_axioms mX8_axiomCount mX8_givens mX8_givenCount mX8_wanted mX8_rows mX8_rowCount mX8_looked mX8_from mX8_needed mX8_broken mX8_places mX8_text mX8_size mX9_kind mX9_a mX9_b mX9_c mX26_rule mX26_instance mX26_premises mX26_count mX26_states mX26_right mX26_size mX10_takes mX10_name mX12_any mX14_kind mX16_kind mX18_first mX19_either A gi Ro ∧ pcDa mX9_kind mX9_a mX9_b mX9_c A ax na tr nt ∧ pcO mX9_kind mX9_a mX9_b mX9_c (A 7 0) wa ∧ pcDl mX8_looked mX9_kind mX9_a mX9_b mX9_c mX26_right mX26_size A S ct pr n
section
variable {kd : Nat → Nat} {an : Nat → Nat} {ai : Nat → Int → Int} {al : Nat → Int → Int} {ar : Nat → Int → Option Nat} {mX8_rules : Nat → Option Nat} {mX8_axioms : Nat → Option Nat} {mX8_axiomCount : Nat → Int} {mX8_givens : Nat → Option Nat} {mX8_givenCount : Nat → Int} {mX8_wanted : Nat → Option Nat} {mX8_rows : Nat → Option Nat} {mX8_rowCount : Nat → Int} {mX8_looked : Nat → Int} {mX8_from : Nat → Option Nat} {mX8_needed : Nat → Option Nat} {mX8_broken : Nat → Int} {mX8_places : Nat → Option Nat} {mX8_text : Nat → Option Nat} {mX8_size : Nat → Int} {mX9_kind : Nat → Int} {mX9_a : Nat → Int} {mX9_b : Nat → Int} {mX9_c : Nat → Int} {mX26_rule : Nat → Int} {mX26_instance : Nat → Int} {mX26_premises : Nat → Option Nat} {mX26_count : Nat → Int} {mX26_states : Nat → Option Nat} {mX26_right : Nat → Int} {mX26_size : Nat → Int} {mX10_takes : Nat → Int} {mX10_name : Nat → Option Nat} {mX12_any : Nat → Int} {mX14_kind : Nat → Int} {mX16_kind : Nat → Int} {mX18_first : Nat → Int} {mX19_either : Nat → Int} {A : Nat → Int → Nat} {gi : Nat → Nat × Int} {Ro : Int → Nat} {ax tr ru ins ct pr wa : Int → Int} {na nt n : Int} {S : Int → Int → Int}
theorem pcO.up {o t : Nat} {f : Int → Int} {v0 v1 v2 v3 : Int} (h : pcO mX9_kind mX9_a mX9_b mX9_c o f) (ne : o ≠ t) : pcO (va_up mX9_kind t v0) (va_up mX9_a t v1) (va_up mX9_b t v2) (va_up mX9_c t v3) o f := by
  unfold pcO
  rw [va_up_ne _ _ ne, va_up_ne _ _ ne, va_up_ne _ _ ne, va_up_ne _ _ ne]
  exact h
theorem pcJ.nx {r w z v0 v1 v2 v3 : Int} {f : Int → Option Nat} (J : pcJ kd an ai al ar mX8_rules mX8_axioms mX8_axiomCount mX8_givens mX8_givenCount mX8_wanted mX8_rows mX8_rowCount mX8_looked mX8_from mX8_needed mX8_broken mX8_places mX8_text mX8_size mX9_kind mX9_a mX9_b mX9_c mX26_rule mX26_instance mX26_premises mX26_count mX26_states mX26_right mX26_size mX10_takes mX10_name mX12_any mX14_kind mX16_kind mX18_first mX19_either A gi Ro ax na tr nt wa S ct pr n) (hn : n ≤ 300) (hna : na ≤ 100) (hnt : nt ≤ 100) (hr : 1 ≤ r ∧ r ≤ n) (e : mX8_looked (A 0 0) = r - 1) (h0 : S r 0 = v0) (h1 : S r 1 = v1) (h2 : S r 2 = v2) (h3 : S r 3 = v3) (hw : w = if S r 0 = 0 then 0 else 1) (hz : z = pcSz ct pr r) : pcJ kd an ai al (va_up ar (A 12 0) f) mX8_rules mX8_axioms mX8_axiomCount mX8_givens mX8_givenCount mX8_wanted mX8_rows mX8_rowCount (va_up mX8_looked (A 0 0) r) mX8_from mX8_needed mX8_broken mX8_places mX8_text mX8_size (va_up mX9_kind (A 11 r) v0) (va_up mX9_a (A 11 r) v1) (va_up mX9_b (A 11 r) v2) (va_up mX9_c (A 11 r) v3) mX26_rule mX26_instance mX26_premises mX26_count mX26_states (va_up mX26_right (A 9 r) w) (va_up mX26_size (A 9 r) z) mX10_takes mX10_name mX12_any mX14_kind mX16_kind mX18_first mX19_either A gi Ro ax na tr nt wa S ct pr n := by
  obtain ⟨H, ⟨d1, d2⟩, dw, dl⟩ := J
  have r11 : 0 ≤ r ∧ r < pN 11 := ⟨by omega, by show r < 301; omega⟩
  refine ⟨H.fr f, ⟨fun k a b => (d1 k a b).up (H.ne (i := 4) (i' := 11) ⟨a, by show k < 100; omega⟩ r11 (Or.inl (by decide))), fun k a b => (d2 k a b).up (H.ne (i := 6) (i' := 11) ⟨a, by show k < 100; omega⟩ r11 (Or.inl (by decide)))⟩, dw.up (H.ne (i := 7) (i' := 11) ⟨by decide, z01⟩ r11 (Or.inl (by decide))), ?_⟩
  unfold pcDl
  rw [va_up_self]
  refine ⟨by omega, fun p a b => ?_⟩
  by_cases h : p = r
  · subst h
    rw [va_up_self, va_up_self]
    refine ⟨hw, hz, ?_⟩
    unfold pcO
    rw [va_up_self, va_up_self, va_up_self, va_up_self]
    exact ⟨h0.symm, h1.symm, h2.symm, h3.symm⟩
  · have n9 : A 9 p ≠ A 9 r := H.ne (i := 9) (i' := 9) ⟨by omega, by show p < 301; omega⟩ ⟨by omega, by show r < 301; omega⟩ (Or.inr h)
    have n11 : A 11 p ≠ A 11 r := H.ne (i := 11) (i' := 11) ⟨by omega, by show p < 301; omega⟩ r11 (Or.inr h)
    obtain ⟨q1, q2, q3⟩ := dl.2 p a (by omega)
    rw [va_up_ne _ _ n9, va_up_ne _ _ n9]
    exact ⟨q1, q2, q3.up n11⟩
theorem CPC_look {post : (Nat → Int → Option Nat) → (Nat → Int) → (Nat → Int) → (Nat → Int) → (Nat → Int) → (Nat → Int) → (Nat → Int) → (Nat → Int) → Prop} {x1 : Int} (J : pcJ kd an ai al ar mX8_rules mX8_axioms mX8_axiomCount mX8_givens mX8_givenCount mX8_wanted mX8_rows mX8_rowCount mX8_looked mX8_from mX8_needed mX8_broken mX8_places mX8_text mX8_size mX9_kind mX9_a mX9_b mX9_c mX26_rule mX26_instance mX26_premises mX26_count mX26_states mX26_right mX26_size mX10_takes mX10_name mX12_any mX14_kind mX16_kind mX18_first mX19_either A gi Ro ax na tr nt wa (pcS ax tr ru ins ct pr) ct pr n) (hI : pcI ru ins ct pr na nt n) (hA : pcAx ax na) (hT : pcTr tr nt) (hD : pcDr ai mX26_rule mX26_instance mX26_count A ru ins ct pr n) (hx : x1 ≤ n)
    (hp : ∀ ar' lo ki a b c ri sz, pcJ kd an ai al (ar') mX8_rules mX8_axioms mX8_axiomCount mX8_givens mX8_givenCount mX8_wanted mX8_rows mX8_rowCount lo mX8_from mX8_needed mX8_broken mX8_places mX8_text mX8_size ki a b c mX26_rule mX26_instance mX26_premises mX26_count mX26_states ri sz mX10_takes mX10_name mX12_any mX14_kind mX16_kind mX18_first mX19_either A gi Ro ax na tr nt wa (pcS ax tr ru ins ct pr) ct pr n → x1 ≤ lo (A 0 0) → post ar' lo ki a b c ri sz) : wpPC_X8_look post kd an ai ar mX8_rules mX8_axioms mX8_givens mX8_rows mX8_looked mX8_from mX9_kind mX9_a mX9_b mX9_c mX26_rule mX26_instance mX26_premises mX26_count mX26_states mX26_right mX26_size mX10_takes mX12_any mX14_kind mX16_kind mX18_first mX19_either (A 0 0) x1 := by
  have key : ∀ (d : Nat) ar mX8_looked mX9_kind mX9_a mX9_b mX9_c mX26_right mX26_size, pcJ kd an ai al ar mX8_rules mX8_axioms mX8_axiomCount mX8_givens mX8_givenCount mX8_wanted mX8_rows mX8_rowCount mX8_looked mX8_from mX8_needed mX8_broken mX8_places mX8_text mX8_size mX9_kind mX9_a mX9_b mX9_c mX26_rule mX26_instance mX26_premises mX26_count mX26_states mX26_right mX26_size mX10_takes mX10_name mX12_any mX14_kind mX16_kind mX18_first mX19_either A gi Ro ax na tr nt wa (pcS ax tr ru ins ct pr) ct pr n → (x1 - mX8_looked (A 0 0)).toNat < d → wPC_X8_look_0 post (A 0 0) x1 kd an ai mX8_rules mX8_axioms mX8_givens mX8_rows mX8_from mX26_rule mX26_instance mX26_premises mX26_count mX26_states mX10_takes mX12_any mX14_kind mX16_kind mX18_first mX19_either d ar mX8_looked mX9_kind mX9_a mX9_b mX9_c mX26_right mX26_size := by
    intro d
    induction d with
    | zero => intro _ _ _ _ _ _ _ _ _ h; omega
    | succ d ih =>
      intro ar mX8_looked mX9_kind mX9_a mX9_b mX9_c mX26_right mX26_size J hd
      rw [wPC_X8_look_0]
      refine ⟨fun z => hp _ _ _ _ _ _ _ _ J z, fun z => ?_⟩
      obtain ⟨H, ⟨d1, d2⟩, dw, dl0, dl⟩ := id J
      obtain ⟨s1, s2, s3, s4, s5⟩ := id H
      obtain ⟨r, er⟩ : ∃ r, r = mX8_looked (A 0 0) + 1 := ⟨_, rfl⟩
      obtain ⟨i1, i2, i3, i4⟩ := id hI
      have hr : 1 ≤ r ∧ r ≤ n := by omega
      have R := i4 r hr.1 hr.2
      have D := hD r hr.1 hr.2
      have U := s3 (ru r) R.1.1 (by have := R.1; omega)
      have k1 : kd (A 1 0) = 21 := H.k 1 0 (by decide) z01
      have l1 : an (A 1 0) = 18 := H.l 1 0 (by decide) z01 (by decide)
      have k9 : kd (A 9 r) = 3 := H.k 9 r (by omega) (by show r < 301; omega)
      have k11 : kd (A 11 r) = 2 := H.k 11 r (by omega) (by show r < 301; omega)
      have k8 : kd (A 8 0) = 23 := H.k 8 0 (by decide) z01
      have l8 : an (A 8 0) = 301 := H.l 8 0 (by decide) z01 (by decide)
      have k12 : kd (A 12 0) = 22 := H.k 12 0 (by decide) z01
      have l12 : an (A 12 0) = 3 := H.l 12 0 (by decide) z01 (by decide)
      have S5 := s5 r (by omega) (by omega)
      have P := hI.prm
      have hsz : (if 1000000000 < pcSm (pcSz ct pr) pr r (ct r).toNat then 1000000000 else pcSm (pcSz ct pr) pr r (ct r).toNat) = pcSz ct pr r := by
        rw [pcSz_eq hr.1 (P r hr.1 hr.2).2]
        by_cases c : pcSm (pcSz ct pr) pr r (ct r).toNat ≤ 1000000000
        · rw [if_pos c, if_neg (by omega)]
        · rw [if_neg c, if_pos (by omega)]
      have szb := pcSz_b P 300 hr.1 (by omega) hr.2
      have eS := pcS_eq (ax := ax) (tr := tr) (na := na) (nt := nt) hr.1 R
      -- the end of a row
      have fin : ∀ (f : Int → Option Nat) w v0 v1 v2 v3, pcS ax tr ru ins ct pr r 0 = v0 → pcS ax tr ru ins ct pr r 1 = v1 → pcS ax tr ru ins ct pr r 2 = v2 → pcS ax tr ru ins ct pr r 3 = v3 → (w = if pcS ax tr ru ins ct pr r 0 = 0 then 0 else 1) → wPC_X8_look_0 post (A 0 0) x1 kd an ai mX8_rules mX8_axioms mX8_givens mX8_rows mX8_from mX26_rule mX26_instance mX26_premises mX26_count mX26_states mX10_takes mX12_any mX14_kind mX16_kind mX18_first mX19_either d (va_up ar (A 12 0) f) (va_up mX8_looked (A 0 0) r) (va_up mX9_kind (A 11 r) v0) (va_up mX9_a (A 11 r) v1) (va_up mX9_b (A 11 r) v2) (va_up mX9_c (A 11 r) v3) (va_up mX26_right (A 9 r) w) (va_up mX26_size (A 9 r) (pcSz ct pr r)) := by
        intro f w v0 v1 v2 v3 e0 e1 e2 e3 ew
        exact ih _ _ _ _ _ _ _ _ (J.nx (by omega) (by omega) (by omega) hr (by omega) e0 e1 e2 e3 ew rfl) (by rw [va_up_self]; omega)
      have fin0 : ∀ (f : Int → Option Nat), pcS ax tr ru ins ct pr r = pcZ → wPC_X8_look_0 post (A 0 0) x1 kd an ai mX8_rules mX8_axioms mX8_givens mX8_rows mX8_from mX26_rule mX26_instance mX26_premises mX26_count mX26_states mX10_takes mX12_any mX14_kind mX16_kind mX18_first mX19_either d (va_up ar (A 12 0) f) (va_up mX8_looked (A 0 0) r) (va_up mX9_kind (A 11 r) 0) (va_up mX9_a (A 11 r) 0) (va_up mX9_b (A 11 r) 0) (va_up mX9_c (A 11 r) 0) (va_up mX26_right (A 9 r) 0) (va_up mX26_size (A 9 r) (pcSz ct pr r)) := by
        intro f e
        exact fin f 0 0 0 0 0 (by rw [e]; rfl) (by rw [e]; rfl) (by rw [e]; rfl) (by rw [e]; rfl) (by rw [e]; rfl)
      have hL : ∀ v, ∀ p, 1 ≤ p → p < r → va_up mX26_right (A 9 r) v (A 9 p) = (if pcS ax tr ru ins ct pr p 0 = 0 then 0 else 1) ∧ mX26_size (A 9 p) = pcSz ct pr p := fun v p a b => by
        have := dl p a (by omega)
        rw [va_up_ne _ _ (H.ne (i := 9) (i' := 9) ⟨by omega, by show p < 301; omega⟩ ⟨by omega, by show r < 301; omega⟩ (Or.inr (by omega)))]
        exact ⟨this.1, this.2.1⟩
      refine ⟨by omega, fun v5 e5 lo6 e6 => kOn_of s2.2.2.2.2.1 ⟨k8, ?_⟩⟩
      rw [e5, ← er] at e6
      subst e6
      rw [va_up_self, l8]
      refine ⟨by omega, fun r10 e10 => ?_⟩
      rw [S5.1] at e10
      subst e10
      refine kOn_some ⟨k9, kOn_of s2.1 ⟨k1, ?_⟩⟩
      rw [D.1.1, l1]
      refine ⟨by have := R.1; omega, fun r16 e16 => ?_⟩
      rw [U.1] at e16
      subst e16
      refine kOn_some ⟨U.2.kk.1, CPC_prem U.2 ?_⟩
      rw [D.1.2.2]
      refine ⟨fun g1 ri eri => ?_, fun g1 ri eri => ?_⟩
      · subst eri
        have H' : pcSh kd an ai al ar mX8_rules mX8_axioms mX8_axiomCount mX8_givens mX8_givenCount mX8_wanted mX8_rows mX8_rowCount mX8_looked mX8_from mX8_needed mX8_broken mX8_places mX8_text mX8_size mX9_kind mX9_a mX9_b mX9_c mX26_rule mX26_instance mX26_premises mX26_count mX26_states (va_up mX26_right (A 9 r) 1) mX26_size mX10_takes mX10_name mX12_any mX14_kind mX16_kind mX18_first mX19_either A gi Ro := H
        refine CPC_l63 (v := 1) H' hr (by omega) P hD (hL 1) (Or.inr rfl) (va_up_self _ _ _) (fun f w hf hw iw => ?_)
        rw [va_up_up, hsz]
        refine ⟨by omega, fun v101 e101 => kOn_some ⟨k9, fun sz esz => ?_⟩⟩
        subst e101
        subst esz
        rw [va_up_self, D.1.1, D.1.2.1]
        refine ⟨fun e0 => ?_, fun e0 => kOn_of s2.1 ⟨k1, by rw [l1]; have := R.1; omega, fun r109 e109 => ?_⟩⟩
        · refine CPC_l182 k9 S5.2.2 k11 (Or.inl rfl) (fun _ => ?_) (fun h => absurd h (by decide))
          rw [va_up_up]
          refine fin0 f ?_
          rw [eS, pif_f]
          intro g
          have : w = 1 := iw.mpr ⟨rfl, g.2⟩
          omega
        · rw [va_up_ne _ _ (H.ne (i := 1) (i' := 12) ⟨by decide, z01⟩ ⟨by decide, z01⟩ (Or.inl (by decide))), U.1] at e109
          subst e109
          have g : pcGd ru ct pr (pcS ax tr ru ins ct pr) r := ⟨g1, (iw.mp (by omega)).2⟩
          rw [pif_t g] at eS
          refine kOn_some ⟨U.2.kk.1, ?_⟩
          rw [s2.2.2.2.2.2.1, S5.2.2]
          refine CPC_give (ax := ax) (tr := tr) (q := fun i => A 11 (pr (3 * r + i))) (s := fun i => pcR ax tr ru ins ct pr (r.toNat - 1) (pr (3 * r + i))) (aA := A 3 0) (aG := A 5 0) ⟨⟨k12, l12, k11⟩, fun i a b => ?_⟩ U.2 (H.k 0 0 (by decide) z01) s2.2.1 s2.2.2.1 ⟨H.k 3 0 (by decide) z01, H.k 5 0 (by decide) z01⟩ ⟨H.l 3 0 (by decide) z01 (by decide), H.l 5 0 (by decide) z01 (by decide)⟩ (fun e => ?_) (fun e => ?_) (fun v0 v1 v2 v3 e en => ⟨fun q => absurd q (by decide), fun _ => ?_⟩) (fun e v0 v1 v2 v3 => ⟨fun _ => ?_, fun q => absurd rfl q⟩)
          · have pb := R.2.2.1 i a (by omega)
            refine ⟨by rw [va_up_self]; exact hf i a (by omega), ⟨H.k 11 _ (by omega) (by show _ < (301 : Int); omega), H.ne (i := 11) (i' := 11) ⟨by omega, by show _ < (301 : Int); omega⟩ ⟨by omega, by show r < 301; omega⟩ (Or.inr (by omega))⟩, ?_⟩
            show pcO mX9_kind mX9_a mX9_b mX9_c (A 11 (pr (3 * r + i))) (pcR ax tr ru ins ct pr (r.toNat - 1) (pr (3 * r + i)))
            rw [pcR_S pb.1 (by omega)]
            exact (dl _ pb.1 (by omega)).2.2
          · have q := R.2.2.2.1 e
            refine ⟨by omega, A 4 (ins r - 1), ?_, H.k 4 _ (by omega) (by show ins r - 1 < (100 : Int); omega), ?_, by have := hA (ins r) q.1 q.2; omega⟩
            · rw [va_up_ne _ _ (H.ne (i := 3) (i' := 12) ⟨by decide, z01⟩ ⟨by decide, z01⟩ (Or.inl (by decide)))]
              exact (s4 (ins r - 1) (by omega) (by omega)).1
            · have := d1 (ins r - 1) (by omega) (by omega)
              rw [Int.sub_add_cancel] at this
              exact this
          · have q := R.2.2.2.2.1 e
            refine ⟨by omega, A 6 (ins r - 1), ?_, H.k 6 _ (by omega) (by show ins r - 1 < (100 : Int); omega), ?_, by have := hT (ins r) q.1 q.2; omega⟩
            · rw [va_up_ne _ _ (H.ne (i := 5) (i' := 12) ⟨by decide, z01⟩ ⟨by decide, z01⟩ (Or.inl (by decide)))]
              exact (s4 (ins r - 1) (by omega) (by omega)).2
            · have := d2 (ins r - 1) (by omega) (by omega)
              rw [Int.sub_add_cancel] at this
              exact this
          · refine CPC_l182 k9 S5.2.2 k11 (Or.inr rfl) (fun h => absurd h (by decide)) (fun _ => ?_)
            rw [va_up_up]
            have eM := eS.trans e
            exact fin f 1 v0 v1 v2 v3 (by rw [eM]; rfl) (by rw [eM]; rfl) (by rw [eM]; rfl) (by rw [eM]; rfl) (by rw [eM, if_neg (show ¬ pcM v0 v1 v2 v3 0 = 0 from en)])
          · refine CPC_l182 k9 S5.2.2 k11 (Or.inl rfl) (fun _ => ?_) (fun h => absurd h (by decide))
            rw [va_up_up, va_up_up, va_up_up, va_up_up, va_up_up]
            exact fin0 f (eS.trans e)
      · subst eri
        have H' : pcSh kd an ai al ar mX8_rules mX8_axioms mX8_axiomCount mX8_givens mX8_givenCount mX8_wanted mX8_rows mX8_rowCount mX8_looked mX8_from mX8_needed mX8_broken mX8_places mX8_text mX8_size mX9_kind mX9_a mX9_b mX9_c mX26_rule mX26_instance mX26_premises mX26_count mX26_states (va_up mX26_right (A 9 r) 0) mX26_size mX10_takes mX10_name mX12_any mX14_kind mX16_kind mX18_first mX19_either A gi Ro := H
        refine CPC_l63 (v := 0) H' hr (by omega) P hD (hL 0) (Or.inl rfl) (va_up_self _ _ _) (fun f w hf hw iw => ?_)
        have w0 : w = 0 := by
          rcases hw with h | h
          · exact h
          · exact absurd (iw.mp h).1 (by decide)
        subst w0
        rw [va_up_up, hsz]
        refine ⟨by omega, fun v61 e61 => kOn_some ⟨k9, fun sz esz => ?_⟩⟩
        subst e61
        subst esz
        rw [va_up_self]
        refine ⟨fun e0 => ?_, fun e0 => absurd rfl e0⟩
        refine CPC_l182 k9 S5.2.2 k11 (Or.inl rfl) (fun _ => ?_) (fun h => absurd h (by decide))
        rw [va_up_up]
        refine fin0 f ?_
        rw [eS, pif_f]
        exact fun g => g1 g.1
  unfold wpPC_X8_look
  exact ⟨_, key _ _ _ _ _ _ _ _ _ J (Nat.lt_succ_self _)⟩
end
