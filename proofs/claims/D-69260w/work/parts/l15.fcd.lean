/-! MODULE FacetCounts: one state for both sides (own, rows, up, ch, sn); its calls; the class keeps fcC, the reference ftC -/
abbrev FcS : Type := (Nat → Int32) × Int32 × (Nat → Int32) × (Nat → Int32) × (Nat → Int32)
noncomputable def fcl (a : FcS) : Nat → Int32 := clOf a.2.2.1
def fsRow (a : FcS) (x y z : Int32) : Int32 × FcS := ((fcRow a.1 a.2.1 x y z).1, (fcRow a.1 a.2.1 x y z).2.1, (fcRow a.1 a.2.1 x y z).2.2, a.2.2)
def fsDrop (a : FcS) (x y z : Int32) : Int32 × FcS := ((fcDrop a.1 a.2.1 x y z).1, (fcDrop a.1 a.2.1 x y z).2.1, (fcDrop a.1 a.2.1 x y z).2.2, a.2.2)
noncomputable def fsAbove (a : FcS) (x y : Int32) : Int32 × FcS := (fcAbove a.2.2.1 (fcl a) x y, a.1, a.2.1, (if fcAbove a.2.2.1 (fcl a) x y = 1 then upd a.2.2.1 x.toNatClampNeg y else a.2.2.1), a.2.2.2)
noncomputable def fsChoose (a : FcS) (x y z : Int32) : Int32 × FcS := ((if rI x 8 && rI y 32 then nI (fcKept a.1 (fcl a) (fcChoose a.2.2.2.1 x y z)) else -1), a.1, a.2.1, a.2.2.1, fcChoose a.2.2.2.1 x y z, a.2.2.2.2)
noncomputable def fsKept (a : FcS) : Int32 := nI (fcKept a.1 (fcl a) a.2.2.2.1)
noncomputable def fsIsKept (a : FcS) (x : Int32) : Int32 := fcIsKept a.1 (fcl a) a.2.2.2.1 x
noncomputable def fsFacet (a : FcS) (x y : Int32) : Int32 := fcFacet a.1 (fcl a) a.2.2.2.1 x y
noncomputable def fsTop (a : FcS) (x y : Int32) : Int32 := fcTop a.1 (fcl a) a.2.2.2.1 x y
noncomputable def fsRange (a : FcS) (x y z : Int32) : Int32 := fcRange a.1 (fcl a) a.2.2.2.1 x y z
noncomputable def fsSum (a : FcS) (x y z : Int32) : Int32 := fcSum a.1 (fcl a) a.2.2.2.1 x y z
noncomputable def fsChanged (a : FcS) : Int32 × FcS := (nI (cnt (fun j => !decide (cnA a.1 (fcl a) a.2.2.2.1 j = a.2.2.2.2 j)) 256), a.1, a.2.1, a.2.2.1, a.2.2.2.1, fun j => if j < 256 then cnA a.1 (fcl a) a.2.2.2.1 j else a.2.2.2.2 j)
/-- the class' cells hold a -/
def fcC (a : FcS) (cl fl cn : Nat → Int32) : Prop := upOK a.2.2.1 ∧ (∀ k, k < 32 → cl k = fcl a k) ∧ fcI a.1 (fcl a) a.2.2.2.1 fl cn
theorem fcC_in {a : FcS} {cl fl cn : Nat → Int32} (h : fcC a cl fl cn) : fcI a.1 cl a.2.2.2.1 fl cn ∧ clE a.2.2.1 cl := by
  refine ⟨fcI_cl (fun k hk => (h.2.1 k hk).symm) h.2.2, ?_⟩
  intro k hk v hv
  have := clOf_clE h.1 k hk v hv
  rw [h.2.1 k hk]
  rw [show fcl a k = clOf a.2.2.1 k from rfl, this]
  constructor
  · rintro (q | ⟨u, hu, q, z⟩)
    · exact Or.inl q
    · exact Or.inr ⟨u, hu, q, by rw [h.2.1 u hu]; exact z⟩
  · rintro (q | ⟨u, hu, q, z⟩)
    · exact Or.inl q
    · exact Or.inr ⟨u, hu, q, by rw [h.2.1 u hu] at z; exact z⟩
section C
variable {a : FcS} {cl fl cn : Nat → Int32}
theorem C31_row {post : Int32 → (Nat → Int32) → Int32 → (Nat → Int32) → (Nat → Int32) → Prop} {x y z : Int32} (h : fcC a cl fl cn) (hp : ∀ fl' cn', fcC (fsRow a x y z).2 cl fl' cn' → post (fsRow a x y z).1 (fsRow a x y z).2.1 (fsRow a x y z).2.2.1 fl' cn') : wpX31_row post a.1 a.2.1 cl a.2.2.2.1 fl cn x y z :=
  X31_row (fcC_in h).1 (fun fl' cn' hI => hp fl' cn' ⟨h.1, h.2.1, fcI_cl (fun k hk => h.2.1 k hk) hI⟩)
theorem C31_drop {post : Int32 → (Nat → Int32) → Int32 → (Nat → Int32) → (Nat → Int32) → Prop} {x y z : Int32} (h : fcC a cl fl cn) (hp : ∀ fl' cn', fcC (fsDrop a x y z).2 cl fl' cn' → post (fsDrop a x y z).1 (fsDrop a x y z).2.1 (fsDrop a x y z).2.2.1 fl' cn') : wpX31_drop post a.1 a.2.1 cl a.2.2.2.1 fl cn x y z :=
  X31_drop (fcC_in h).1 (fun fl' cn' hI => hp fl' cn' ⟨h.1, h.2.1, fcI_cl (fun k hk => h.2.1 k hk) hI⟩)
theorem fcAbove_cl {up cl cl' : Nat → Int32} (e : ∀ k, k < 32 → cl k = cl' k) (x y : Int32) : fcAbove up cl x y = fcAbove up cl' x y := by
  unfold fcAbove
  by_cases h1 : (!(rI x 32) || (!decide (y = -1) && !(rI y 32))) = true
  · rw [if_pos h1, if_pos h1]
  · rw [if_neg h1, if_neg h1]
    by_cases hy : y = -1
    · simp [hy]
    · have : rI y 32 = true := by
        cases q : rI y 32 with
        | true => rfl
        | false => rw [q] at h1; simp [hy] at h1
      obtain ⟨u, hu, eu⟩ := rI_t (by decide) this
      rw [eu, nI_clamp (by omega), e u hu]
theorem C31_above {post : Int32 → (Nat → Int32) → (Nat → Int32) → (Nat → Int32) → (Nat → Int32) → Prop} {x y : Int32} (h : fcC a cl fl cn) (hp : ∀ cl' fl' cn', fcC (fsAbove a x y).2 cl' fl' cn' → post (fsAbove a x y).1 (fsAbove a x y).2.2.2.1 cl' fl' cn') : wpX31_above post a.1 a.2.2.1 cl a.2.2.2.1 fl cn x y := by
  have e := fcAbove_cl (up := a.2.2.1) h.2.1 x y
  unfold fsAbove at hp
  dsimp only at hp
  refine X31_above (fcC_in h).1 h.1 (fcC_in h).2 (fun q => ?_) (fun cl' fl' cn' q hO hE hI => ?_)
  · rw [e] at q ⊢
    rw [if_neg q] at hp
    exact hp cl fl cn h
  · rw [e] at q
    rw [if_pos q, q] at hp
    have u := clE_uniq hO hE (clOf_clE hO)
    exact hp cl' fl' cn' ⟨hO, u, fcI_cl u hI⟩
theorem C31_choose {post : Int32 → (Nat → Int32) → (Nat → Int32) → (Nat → Int32) → Prop} {x y z : Int32} (h : fcC a cl fl cn) (hp : ∀ fl' cn', fcC (fsChoose a x y z).2 cl fl' cn' → post (fsChoose a x y z).1 (fsChoose a x y z).2.2.2.2.1 fl' cn') : wpX31_choose post a.1 cl a.2.2.2.1 fl cn x y z := by
  refine X31_choose (fcC_in h).1 (fun fl' cn' hI => ?_)
  have e : fcKept a.1 cl (fcChoose a.2.2.2.1 x y z) = fcKept a.1 (fcl a) (fcChoose a.2.2.2.1 x y z) := by
    refine cnt_congr (fun t _ => ?_)
    have : nfail a.1 cl (fcChoose a.2.2.2.1 x y z) t = nfail a.1 (fcl a) (fcChoose a.2.2.2.1 x y z) t := cnt_congr (fun k _ => by unfold ffail; rw [hasC_cl h.2.1])
    rw [this]
  rw [e]
  exact hp fl' cn' ⟨h.1, h.2.1, fcI_cl h.2.1 hI⟩
theorem C31_kept {post : Int32 → Prop} (h : fcC a cl fl cn) (hp : post (fsKept a)) : wpX31_kept post fl := X31_kept h.2.2 hp
theorem C31_isKept {post : Int32 → Prop} {x : Int32} (h : fcC a cl fl cn) (hp : post (fsIsKept a x)) : wpX31_isKept post fl x := X31_isKept h.2.2 hp
theorem C31_facet {post : Int32 → Prop} {x y : Int32} (h : fcC a cl fl cn) (hp : post (fsFacet a x y)) : wpX31_facet post cn x y := X31_facet h.2.2 hp
theorem C31_top {post : Int32 → Prop} {x y : Int32} (h : fcC a cl fl cn) (hp : post (fsTop a x y)) : wpX31_top post cn x y := X31_topF h.2.2 hp
theorem C31_range {post : Int32 → Prop} {x y z : Int32} (h : fcC a cl fl cn) (hp : post (fsRange a x y z)) : wpX31_range post a.1 cl a.2.2.2.1 fl x y z := by
  refine X31_range (fcC_in h).1 ?_
  have e : fcRange a.1 cl a.2.2.2.1 x y z = fsRange a x y z := by
    unfold fsRange fcRange
    have : ∀ t k, ffail a.1 cl a.2.2.2.1 t k = ffail a.1 (fcl a) a.2.2.2.1 t k := fun t k => by unfold ffail; rw [hasC_cl h.2.1]
    have e2 : ∀ t k, fbut a.1 cl a.2.2.2.1 t k = fbut a.1 (fcl a) a.2.2.2.1 t k := fun t k => by unfold fbut; rw [this, show nfail a.1 cl a.2.2.2.1 t = nfail a.1 (fcl a) a.2.2.2.1 t from cnt_congr (fun k _ => this t k)]
    have e3 : cnt (fun t => fbut a.1 cl a.2.2.2.1 t x.toNatClampNeg && !decide (hasC a.1 cl t x.toNatClampNeg &&& spanB y z 32 = 0)) 40 = cnt (fun t => fbut a.1 (fcl a) a.2.2.2.1 t x.toNatClampNeg && !decide (hasC a.1 (fcl a) t x.toNatClampNeg &&& spanB y z 32 = 0)) 40 := cnt_congr (fun t _ => by rw [e2, hasC_cl h.2.1])
    rw [e3]
  rw [e]; exact hp
theorem sTh_cl {own cl cl' ch : Nat → Int32} (e : ∀ k, k < 32 → cl k = cl' k) (h v o : Nat) : ∀ n, sTh own cl ch h v o n = sTh own cl' ch h v o n
  | 0 => rfl
  | n + 1 => by
    unfold sTh
    have : nfail own cl ch n = nfail own cl' ch n := cnt_congr (fun k _ => by unfold ffail; rw [hasC_cl e])
    rw [sTh_cl e h v o n, this, hasC_cl e, hasC_cl e]
theorem C31_sum {post : Int32 → Prop} {x y z : Int32} (h : fcC a cl fl cn) (hp : post (fsSum a x y z)) : wpX31_sum post a.1 cl fl x y z := by
  refine X31_sum (fcC_in h).1 ?_
  have e : fcSum a.1 cl a.2.2.2.1 x y z = fsSum a x y z := by unfold fsSum fcSum; rw [sTh_cl h.2.1]
  rw [e]; exact hp
theorem C31_changed {post : Int32 → (Nat → Int32) → Prop} (h : fcC a cl fl cn) (hp : fcC (fsChanged a).2 cl fl cn → post (fsChanged a).1 (fsChanged a).2.2.2.2.2) : wpX31_changed post cn a.2.2.2.2 := by
  refine X31_changed ?_
  have e1 : cnt (fun j => !decide (cn j = a.2.2.2.2 j)) 256 = cnt (fun j => !decide (cnA a.1 (fcl a) a.2.2.2.1 j = a.2.2.2.2 j)) 256 := cnt_congr (fun j hj => by rw [h.2.2.2 j hj]; rfl)
  have e2 : (fun j => if j < 256 then cn j else a.2.2.2.2 j) = (fun j => if j < 256 then cnA a.1 (fcl a) a.2.2.2.1 j else a.2.2.2.2 j) := by
    funext j
    by_cases hj : j < 256
    · rw [if_pos hj, if_pos hj, h.2.2.2 j hj]; rfl
    · rw [if_neg hj, if_neg hj]
  rw [e1, e2]
  exact hp ⟨h.1, h.2.1, h.2.2⟩
end C
/-- the reference's cells hold a: rows, things, heads, values, uppers, chosen, seen, fresh, has, but, kept -/
def ftC (a : FcS) (rows : Int32) (th hd vl up2 ch2 sn2 : Nat → Int32) (fr : Int32) (has but kept : Nat → Int32) : Prop :=
  rows = a.2.1 ∧ (∃ n, a.2.1 = nI n ∧ ftR a.1 th hd vl n) ∧ upOK a.2.2.1 ∧ (∀ k, k < 32 → up2 k = a.2.2.1 k) ∧ chT a.2.2.2.1 ch2 ∧ (∀ j, j < 256 → sn2 j = a.2.2.2.2 j) ∧ ftF a.1 (fcl a) a.2.2.2.1 fr has but kept
section T
variable {a : FcS} {rows fr : Int32} {th hd vl up2 ch2 sn2 has but kept : Nat → Int32}
theorem T53_row {post : Int32 → Int32 → Int32 → (Nat → Int32) → (Nat → Int32) → (Nat → Int32) → Int32 → Prop} {x y z : Int32} (h : ftC a rows th hd vl up2 ch2 sn2 fr has but kept) (hp : ∀ rows' th' hd' vl' fr', ftC (fsRow a x y z).2 rows' th' hd' vl' up2 ch2 sn2 fr' has but kept → post (fsRow a x y z).1 0 rows' th' hd' vl' fr') : wpX53_row post rows th hd vl fr x y z := by
  obtain ⟨h1, ⟨n, h2, h3⟩, h4, h5, h6, h7, h8⟩ := h
  subst h1
  unfold fsRow at hp
  rw [h2] at hp ⊢
  refine X53_row h3 (fun th' hd' vl' n' fr' e H hf => hp (nI n') th' hd' vl' fr' ⟨e.symm, ⟨n', e, H⟩, h4, h5, h6, h7, ?_⟩)
  rcases hf with q | ⟨q1, q2⟩
  · exact Or.inl q
  · rw [q1]; show ftF _ (fcl a) _ _ _ _ _; rw [q2]; exact h8
theorem T53_drop {post : Int32 → Int32 → Int32 → (Nat → Int32) → (Nat → Int32) → (Nat → Int32) → Int32 → Prop} {x y z : Int32} (h : ftC a rows th hd vl up2 ch2 sn2 fr has but kept) (hp : ∀ rows' th' hd' vl' fr', ftC (fsDrop a x y z).2 rows' th' hd' vl' up2 ch2 sn2 fr' has but kept → post (fsDrop a x y z).1 0 rows' th' hd' vl' fr') : wpX53_drop post rows th hd vl fr x y z := by
  obtain ⟨h1, ⟨n, h2, h3⟩, h4, h5, h6, h7, h8⟩ := h
  subst h1
  unfold fsDrop at hp
  rw [h2] at hp ⊢
  refine X53_drop h3 (fun th' hd' vl' n' fr' e H hf => hp (nI n') th' hd' vl' fr' ⟨e.symm, ⟨n', e, H⟩, h4, h5, h6, h7, ?_⟩)
  rcases hf with q | ⟨q1, q2⟩
  · exact Or.inl q
  · rw [q1]; show ftF _ (fcl a) _ _ _ _ _; rw [q2]; exact h8
theorem fcAbove_up {up up2 cl : Nat → Int32} (e : ∀ k, k < 32 → up2 k = up k) (x y : Int32) : fcAbove up2 cl x y = fcAbove up cl x y := by
  unfold fcAbove
  by_cases h1 : (!(rI x 32) || (!decide (y = -1) && !(rI y 32))) = true
  · rw [if_pos h1, if_pos h1]
  · rw [if_neg h1, if_neg h1]
    have : rI x 32 = true := by
      cases q : rI x 32 with
      | true => rfl
      | false => rw [q] at h1; simp at h1
    obtain ⟨u, hu, eu⟩ := rI_t (by decide) this
    rw [eu, nI_clamp (by omega), e u hu]
theorem T53_above {post : Int32 → Int32 → (Nat → Int32) → Int32 → Prop} {x y : Int32} (h : ftC a rows th hd vl up2 ch2 sn2 fr has but kept) (hp : ∀ up2' fr', ftC (fsAbove a x y).2 rows th hd vl up2' ch2 sn2 fr' has but kept → post (fsAbove a x y).1 0 up2' fr') : wpX53_above post up2 fr x y := by
  obtain ⟨h1, h2, h4, h5, h6, h7, h8⟩ := h
  have e := fcAbove_up (cl := fcl a) h5 x y
  unfold fsAbove at hp
  dsimp only at hp
  refine X53_above (cl := fcl a) (upOK_cg h5 h4) (clE_cg h5 (clOf_clE h4)) (fun q => ?_) (fun q => ?_)
  · rw [e] at q ⊢
    rw [if_neg q] at hp
    exact hp up2 fr ⟨h1, h2, h4, h5, h6, h7, h8⟩
  · rw [e] at q
    have hx : rI x 32 = true := by
      cases z : rI x 32 with
      | true => rfl
      | false => simp [fcAbove, z] at q
    obtain ⟨k, hk, ek⟩ := rI_t (by decide) hx
    have hy : y = -1 ∨ ∃ u, u < 32 ∧ y = nI u ∧ bt (fcl a u) k = false := by
      by_cases ey : y = -1
      · exact Or.inl ey
      · right
        cases z : rI y 32 with
        | false => simp [fcAbove, z, ey, hx] at q
        | true =>
          obtain ⟨u, hu, eu⟩ := rI_t (by decide) z
          refine ⟨u, hu, eu, ?_⟩
          cases w : bt (fcl a u) k with
          | false => rfl
          | true =>
            rw [eu] at z ey q
            rw [ek] at hx q
            simp [fcAbove, z, ey, hx, nI_clamp (show u < 2 ^ 31 by omega), nI_clamp (show k < 2 ^ 31 by omega), w] at q
    rw [if_pos q, q] at hp
    have hk' : x.toNatClampNeg = k := by rw [ek, nI_clamp (by omega)]
    refine hp _ 0 ⟨h1, h2, ?_, fun j hj => ?_, h6, h7, Or.inl rfl⟩
    · show upOK (upd a.2.2.1 x.toNatClampNeg y)
      rw [hk']
      exact upOK_step hk h4 (clOf_clE h4) hy
    · show upd up2 x.toNatClampNeg y j = upd a.2.2.1 x.toNatClampNeg y j
      by_cases e : j = x.toNatClampNeg
      · rw [e, pk_us, pk_us]
      · rw [pk_un e, pk_un e]; exact h5 j hj
theorem T53_choose {post : Int32 → Int32 → (Nat → Int32) → Int32 → (Nat → Int32) → (Nat → Int32) → (Nat → Int32) → Prop} {x y z : Int32} (hz : z = 0 ∨ z = 1) (h : ftC a rows th hd vl up2 ch2 sn2 fr has but kept) (hp : ∀ ch2' fr' has' but' kept', ftC (fsChoose a x y z).2 rows th hd vl up2 ch2' sn2 fr' has' but' kept' → post (fsChoose a x y z).1 0 ch2' fr' has' but' kept') : wpX53_choose post rows th hd vl up2 ch2 fr has but kept x y z := by
  obtain ⟨h1, ⟨n, h2, h3⟩, h4, h5, h6, h7, h8⟩ := h
  rw [show rows = nI n by rw [h1, h2]]
  exact X53_choose hz h3 (upOK_cg h5 h4) (clE_cg h5 (clOf_clE h4)) h6 h8 (fun ch2' fr' a' b' c' hC hF => hp ch2' fr' a' b' c' ⟨h1, ⟨n, h2, h3⟩, h4, h5, hC, h7, hF⟩)
theorem T53_kept {post : Int32 → Int32 → Int32 → (Nat → Int32) → (Nat → Int32) → (Nat → Int32) → Prop} (h : ftC a rows th hd vl up2 ch2 sn2 fr has but kept) (hp : ∀ fr' has' but' kept', ftC a rows th hd vl up2 ch2 sn2 fr' has' but' kept' → post (fsKept a) 0 fr' has' but' kept') : wpX53_kept post rows th hd vl up2 ch2 fr has but kept := by
  obtain ⟨h1, ⟨n, h2, h3⟩, h4, h5, h6, h7, h8⟩ := h
  rw [show rows = nI n by rw [h1, h2]]
  exact X53_kept h3 (upOK_cg h5 h4) (clE_cg h5 (clOf_clE h4)) h6 h8 (fun fr' a' b' c' hF => hp fr' a' b' c' ⟨h1, ⟨n, h2, h3⟩, h4, h5, h6, h7, hF⟩)
theorem T53_isKept {post : Int32 → Int32 → Int32 → (Nat → Int32) → (Nat → Int32) → (Nat → Int32) → Prop} {x : Int32} (h : ftC a rows th hd vl up2 ch2 sn2 fr has but kept) (hp : ∀ fr' has' but' kept', ftC a rows th hd vl up2 ch2 sn2 fr' has' but' kept' → post (fsIsKept a x) 0 fr' has' but' kept') : wpX53_isKept post rows th hd vl up2 ch2 fr has but kept x := by
  obtain ⟨h1, ⟨n, h2, h3⟩, h4, h5, h6, h7, h8⟩ := h
  rw [show rows = nI n by rw [h1, h2]]
  exact X53_isKept h3 (upOK_cg h5 h4) (clE_cg h5 (clOf_clE h4)) h6 h8 (fun fr' a' b' c' hF => hp fr' a' b' c' ⟨h1, ⟨n, h2, h3⟩, h4, h5, h6, h7, hF⟩)
theorem T53_facet {post : Int32 → Int32 → Int32 → (Nat → Int32) → (Nat → Int32) → (Nat → Int32) → Prop} {x y : Int32} (h : ftC a rows th hd vl up2 ch2 sn2 fr has but kept) (hp : ∀ fr' has' but' kept', ftC a rows th hd vl up2 ch2 sn2 fr' has' but' kept' → post (fsFacet a x y) 0 fr' has' but' kept') : wpX53_facet post rows th hd vl up2 ch2 fr has but kept x y := by
  obtain ⟨h1, ⟨n, h2, h3⟩, h4, h5, h6, h7, h8⟩ := h
  rw [show rows = nI n by rw [h1, h2]]
  exact X53_facet h3 (upOK_cg h5 h4) (clE_cg h5 (clOf_clE h4)) h6 h8 (fun fr' a' b' c' hF => hp fr' a' b' c' ⟨h1, ⟨n, h2, h3⟩, h4, h5, h6, h7, hF⟩)
theorem T53_top {post : Int32 → Int32 → Int32 → (Nat → Int32) → (Nat → Int32) → (Nat → Int32) → Prop} {x y : Int32} (h : ftC a rows th hd vl up2 ch2 sn2 fr has but kept) (hp : ∀ fr' has' but' kept', ftC a rows th hd vl up2 ch2 sn2 fr' has' but' kept' → post (fsTop a x y) 0 fr' has' but' kept') : wpX53_top post rows th hd vl up2 ch2 fr has but kept x y := by
  obtain ⟨h1, ⟨n, h2, h3⟩, h4, h5, h6, h7, h8⟩ := h
  rw [show rows = nI n by rw [h1, h2]]
  exact X53_top h3 (upOK_cg h5 h4) (clE_cg h5 (clOf_clE h4)) h6 h8 (fun fr' a' b' c' hF => hp fr' a' b' c' ⟨h1, ⟨n, h2, h3⟩, h4, h5, h6, h7, hF⟩)
theorem T53_range {post : Int32 → Int32 → Int32 → (Nat → Int32) → (Nat → Int32) → (Nat → Int32) → Prop} {x y z : Int32} (h : ftC a rows th hd vl up2 ch2 sn2 fr has but kept) (hp : ∀ fr' has' but' kept', ftC a rows th hd vl up2 ch2 sn2 fr' has' but' kept' → post (fsRange a x y z) 0 fr' has' but' kept') : wpX53_range post rows th hd vl up2 ch2 fr has but kept x y z := by
  obtain ⟨h1, ⟨n, h2, h3⟩, h4, h5, h6, h7, h8⟩ := h
  rw [show rows = nI n by rw [h1, h2]]
  exact X53_range h3 (upOK_cg h5 h4) (clE_cg h5 (clOf_clE h4)) h6 h8 (fun fr' a' b' c' hF => hp fr' a' b' c' ⟨h1, ⟨n, h2, h3⟩, h4, h5, h6, h7, hF⟩)
theorem T53_sum {post : Int32 → Int32 → Int32 → (Nat → Int32) → (Nat → Int32) → (Nat → Int32) → Prop} {x y z : Int32} (h : ftC a rows th hd vl up2 ch2 sn2 fr has but kept) (hp : ∀ fr' has' but' kept', ftC a rows th hd vl up2 ch2 sn2 fr' has' but' kept' → post (fsSum a x y z) 0 fr' has' but' kept') : wpX53_sum post rows th hd vl up2 ch2 fr has but kept x y z := by
  obtain ⟨h1, ⟨n, h2, h3⟩, h4, h5, h6, h7, h8⟩ := h
  rw [show rows = nI n by rw [h1, h2]]
  exact X53_sum h3 (upOK_cg h5 h4) (clE_cg h5 (clOf_clE h4)) h6 h8 (fun fr' a' b' c' hF => hp fr' a' b' c' ⟨h1, ⟨n, h2, h3⟩, h4, h5, h6, h7, hF⟩)
theorem T53_changed {post : Int32 → Int32 → (Nat → Int32) → Int32 → (Nat → Int32) → (Nat → Int32) → (Nat → Int32) → Prop} (h : ftC a rows th hd vl up2 ch2 sn2 fr has but kept) (hp : ∀ sn2' fr' has' but' kept', ftC (fsChanged a).2 rows th hd vl up2 ch2 sn2' fr' has' but' kept' → post (fsChanged a).1 0 sn2' fr' has' but' kept') : wpX53_changed post rows th hd vl up2 ch2 sn2 fr has but kept := by
  obtain ⟨h1, ⟨n, h2, h3⟩, h4, h5, h6, h7, h8⟩ := h
  rw [show rows = nI n by rw [h1, h2]]
  refine X53_changed h3 (upOK_cg h5 h4) (clE_cg h5 (clOf_clE h4)) h6 h8 (fun fr' a' b' c' hF => ?_)
  have e1 : cnt (fun j => !decide (cnA a.1 (fcl a) a.2.2.2.1 j = sn2 j)) 256 = cnt (fun j => !decide (cnA a.1 (fcl a) a.2.2.2.1 j = a.2.2.2.2 j)) 256 := cnt_congr (fun j hj => by rw [h7 j hj])
  rw [show clOf a.2.2.1 = fcl a from rfl, e1]
  refine hp _ fr' a' b' c' ⟨h1, ⟨n, h2, h3⟩, h4, h5, h6, fun j hj => ?_, hF⟩
  show (if j < 256 then _ else _) = (if j < 256 then _ else _)
  rw [if_pos hj, if_pos hj]
end T
