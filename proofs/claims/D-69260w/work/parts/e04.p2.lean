/-! ProofChecker, the reference (X50): rows worked out, marked, dropped -/
section
variable {ax tr ru ins ct pr st : Int → Int} {na nt n k : Int} {S : Int → Int → Int}
/-- what is worked out up to k -/
def pcW (ax tr ru ins ct pr st : Int → Int) (k : Int) : Prop := ∀ r, 1 ≤ r → r ≤ k → ∀ j, 0 ≤ j → j < 4 → st (4 * r + j) = pcS ax tr ru ins ct pr r j
theorem pcS_eq (h : 1 ≤ k) (hr : pcRw ru ins ct pr na nt k) : pcS ax tr ru ins ct pr k = pif (pcGd ru ct pr (pcS ax tr ru ins ct pr) k) (pcG (ru k) (ins k) ax tr (pcR ax tr ru ins ct pr (k.toNat - 1) (pr (3 * k + 0))) (pcR ax tr ru ins ct pr (k.toNat - 1) (pr (3 * k + 1))) (pcR ax tr ru ins ct pr (k.toNat - 1) (pr (3 * k + 2)))) pcZ := by
  obtain ⟨m, em⟩ : ∃ m : Nat, k = m + 1 := ⟨k.toNat - 1, by omega⟩
  subst em
  unfold pcS
  rw [show ((m : Int) + 1).toNat = m + 1 by omega, pcR, updI_s, Int.add_zero, Nat.add_sub_cancel]
  refine pif_c ?_
  unfold pcGd
  refine and_congr Iff.rfl ⟨fun w i i0 i1 => ?_, fun w i i0 i1 => ?_⟩
  · have hp := hr.2.2.1 i i0 i1
    have := w i i0 i1
    rw [pcR_S hp.1 (by omega)] at this
    exact this
  · have hp := hr.2.2.1 i i0 i1
    have := w i i0 i1
    rw [pcR_S hp.1 (by omega)]
    exact this
theorem T50_w43 {K : Int → Prop} {v : Int} (H : pcPm st pr ct S k) (hv : v = 0 ∨ v = 1) (h1 : (v = 1 ∧ ∀ i, 0 ≤ i → i < ct k → ¬ S (pr (3 * k + i)) 0 = 0) → K 1) (h0 : ¬ (v = 1 ∧ ∀ i, 0 ≤ i → i < ct k → ¬ S (pr (3 * k + i)) 0 = 0) → K 0) : ∃ fu, wX50_work_43 K k ct pr st fu v 0 := by
  have hk : 0 ≤ k ∧ k < 301 := by have := H.1; omega
  have hc := H.2.1
  refine wl2 (fun m x i => wX50_work_43 K k ct pr st m x i) (fun x i => 0 ≤ i ∧ ((x = 1 ∧ v = 1 ∧ ∀ j, 0 ≤ j → j < i → j < ct k → ¬ S (pr (3 * k + j)) 0 = 0) ∨ (x = 0 ∧ ¬ (v = 1 ∧ ∀ i, 0 ≤ i → i < ct k → ¬ S (pr (3 * k + i)) 0 = 0)))) (fun x i => (ct k - i).toNat) ?_ v 0 ⟨by omega, ?_⟩
  · rintro x i ⟨hi, hx⟩ m ih
    rw [wX50_work_43]
    refine ⟨hk, fun z => ?_, fun z => ⟨fun e => ⟨by omega, fun _ e1 => ?_⟩, fun e => T50_of H (by omega) (by decide) ⟨fun e2 => ⟨by omega, fun _ e1 => ?_⟩, fun e2 => ⟨by omega, fun _ e1 => ?_⟩⟩⟩⟩
    · rcases hx with ⟨rfl, hv1, hx⟩ | ⟨rfl, hx⟩
      · exact h1 ⟨hv1, fun j j0 j1 => hx j j0 (by omega) j1⟩
      · exact h0 hx
    · subst e1
      rcases hx with ⟨e3, _⟩ | ⟨_, hx⟩
      · omega
      · exact ih _ _ ⟨by omega, Or.inr ⟨rfl, hx⟩⟩ (by omega)
    · subst e1
      exact ih _ _ ⟨by omega, Or.inr ⟨rfl, fun w => w.2 i hi (by omega) e2⟩⟩ (by omega)
    · subst e1
      rcases hx with ⟨_, hv1, hx⟩ | ⟨e3, _⟩
      · refine ih _ _ ⟨by omega, Or.inl ⟨rfl, hv1, fun j j0 j1 j2 => ?_⟩⟩ (by omega)
        by_cases hj : j = i
        · subst hj; exact e2
        · exact hx j j0 (by omega) j2
      · omega
  · rcases hv with rfl | rfl
    · exact Or.inr ⟨rfl, fun w => absurd w.1 (by decide)⟩
    · exact Or.inl ⟨rfl, rfl, fun j j0 j1 => by omega⟩
theorem T50_work {post : (Int → Int) → Prop} {r : Int} (hI : pcI ru ins ct pr na nt n) (hr : 0 ≤ r ∧ r ≤ n) (hp : ∀ st', pcW ax tr ru ins ct pr st' r → post st') : wpX50_work post ax tr ru ins ct pr st r := by
  obtain ⟨i1, i2, i3, i4⟩ := hI
  unfold wpX50_work
  refine wl2 (fun m x s => wX50_work_2 _ r ax tr ru ins ct pr m x s) (fun x s => (1 ≤ x ∧ x ≤ r + 1) ∧ pcW ax tr ru ins ct pr s (x - 1)) (fun x s => (r + 1 - x).toNat) ?_ 1 st ⟨by omega, fun q a b => by omega⟩
  rintro x s ⟨hx, hW⟩ m ih
  rw [wX50_work_2]
  refine ⟨fun z => hp s (fun q a b => hW q a (by omega)), fun z => T50_state (by omega) (fun s1 L1 => ⟨by omega, T50_takes ?_⟩)⟩
  have R := i4 x hx.1 (by omega)
  obtain ⟨r1, r2, r3, r4, r5, r6⟩ := id R
  have tb := pcT_b (ru x)
  have z0 : ∀ j, 0 ≤ j → j < 4 → s1 (4 * x + j) = 0 := fun j j0 j1 => by
    rw [L1.1 j j0 j1]; unfold pcM; split <;> (try split) <;> (try split) <;> rfl
  have W1 : pcW ax tr ru ins ct pr s1 (x - 1) := fun q a b j j0 j1 => by rw [L1.2 _ (by omega)]; exact hW q a b j j0 j1
  have H : pcPm s1 pr ct (pcR ax tr ru ins ct pr (x.toNat - 1)) x := ⟨by omega, by omega, fun i a b => ⟨r3 i a b, fun j j0 j1 => by rw [pcR_S (r3 i a b).1 (by have := r3 i a b; omega)]; exact W1 _ (r3 i a b).1 (by have := r3 i a b; omega) j j0 j1⟩⟩
  have eS := pcS_eq (ax := ax) (tr := tr) hx.1 R
  have gd : pcGd ru ct pr (pcS ax tr ru ins ct pr) x ↔ (ct x = pcT (ru x) ∧ ∀ i, 0 ≤ i → i < ct x → ¬ pcR ax tr ru ins ct pr (x.toNat - 1) (pr (3 * x + i)) 0 = 0) := by
    unfold pcGd
    refine and_congr Iff.rfl ⟨fun w i a b => ?_, fun w i a b => ?_⟩
    · rw [pcR_S (r3 i a b).1 (by have := r3 i a b; omega)]; exact w i a b
    · have := w i a b
      rw [pcR_S (r3 i a b).1 (by have := r3 i a b; omega)] at this; exact this
  have nxt : ∀ s2, (∀ q, q < 4 * x → s2 q = s1 q) → (∀ j, 0 ≤ j → j < 4 → s2 (4 * x + j) = pcS ax tr ru ins ct pr x j) → (zR (x + 1) ∧ ∀ y : Int, y = x + 1 → wX50_work_2 (fun f => post f) r ax tr ru ins ct pr m y s2) := by
    intro s2 h1 h2
    refine ⟨by omega, fun _ e => ?_⟩
    subst e
    refine ih _ _ ⟨by omega, fun q a b j j0 j1 => ?_⟩ (by omega)
    by_cases hq : q = x
    · subst hq; exact h2 j j0 j1
    · rw [h1 _ (by omega)]; exact W1 q a (by omega) j j0 j1
  have bad : ¬ pcGd ru ct pr (pcS ax tr ru ins ct pr) x → (zR (x + 1) ∧ ∀ y : Int, y = x + 1 → wX50_work_2 (fun f => post f) r ax tr ru ins ct pr m y s1) := by
    intro w
    refine nxt s1 (fun _ _ => rfl) (fun j j0 j1 => ?_)
    rw [eS, pif_f w]; exact z0 j j0 j1
  refine ⟨fun c => T50_w43 H (Or.inr rfl) (fun w => ⟨fun q => absurd q (by decide), fun _ => ?_⟩) (fun w => ⟨fun _ => bad (fun g => w ⟨rfl, (gd.mp g).2⟩), fun q => absurd rfl q⟩), fun c => T50_w43 H (Or.inl rfl) (fun w => absurd w.1 (by decide)) (fun w => ⟨fun _ => bad (fun g => c g.1), fun q => absurd rfl q⟩)⟩
  refine T50_single H c (by omega) (fun w => ?_) rfl z0 (fun s2 L2 => nxt s2 L2.2 (fun j j0 j1 => ?_))
  · rcases w with w | w | w
    · have := r4 w; omega
    · have := r5 (Or.inl w); omega
    · have := r5 (Or.inr w); omega
  · rw [eS, pif_t (gd.mpr ⟨c, w.2⟩)]; exact L2.1 j j0 j1
/-- rows of a proof: marked from the root down -/
noncomputable def pcMk (ct pr : Int → Int) (root : Int) : Nat → Int → Prop
  | 0 => fun r => r = root
  | d + 1 => fun r => pcMk ct pr root d r ∨ (pcMk ct pr root d (root - d) ∧ ∃ i, (0 ≤ i ∧ i < ct (root - d)) ∧ pr (3 * (root - d) + i) = r)
/-- row r is needed for the root -/
def pcNd (ct pr : Int → Int) (root r : Int) : Prop := pcMk ct pr root root.toNat r
theorem pcMk_lo {root : Int} (hpr : ∀ q, 1 ≤ q → q ≤ root → ∀ i, 0 ≤ i → i < ct q → 1 ≤ pr (3 * q + i) ∧ pr (3 * q + i) < q) : ∀ {d : Nat} {r : Int}, (d : Int) ≤ root → pcMk ct pr root d r → 1 ≤ root → 1 ≤ r ∧ r ≤ root
  | 0, r, _, h, h1 => by unfold pcMk at h; omega
  | d + 1, r, hd, h, h1 => by
    rcases h with h | ⟨h, i, hi, e⟩
    · exact pcMk_lo hpr (by omega) h h1
    · have := hpr (root - d) (by omega) (by omega) i hi.1 hi.2
      omega
/-- what is marked below does not change further up -/
theorem pcMk_st {root : Int} (hpr : ∀ q, 1 ≤ q → q ≤ root → ∀ i, 0 ≤ i → i < ct q → 1 ≤ pr (3 * q + i) ∧ pr (3 * q + i) < q) {r : Int} : ∀ {d e : Nat}, d ≤ e → (e : Int) ≤ root → root - d ≤ r → (pcMk ct pr root e r ↔ pcMk ct pr root d r) := by
  intro d e hde
  induction e with
  | zero => intro _ _; have : d = 0 := by omega
            subst this; exact Iff.rfl
  | succ e ih =>
    intro he hr
    by_cases hd : d = e + 1
    · subst hd; exact Iff.rfl
    · have ih := ih (by omega) (by omega) hr
      constructor
      · rintro (h | ⟨h, i, hi, q⟩)
        · exact ih.mp h
        · have := hpr (root - e) (by omega) (by omega) i hi.1 hi.2
          omega
      · intro h; exact Or.inl (ih.mpr h)
end
