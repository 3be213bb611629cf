/-! RightDesk: the reference (X51) does what a call does -/
def rdIR (g kk a b c : Int → Int) (nc : Int) (rk dn wn : Int → Int) (nr : Int) (S : rdT) : Prop := S = (g, (kk, a, b, c, nc), rk, dn, wn, nr) ∧ rdI kk a b c nc rk dn wn nr
section
variable {g kk a b c rk dn wn h_ : Int → Int} {nc nr p r v x y z t i d gr pr cl ve w : Int} {S : rdT}
theorem Q51_member {post : Int → (Int → Int) → Prop} (R : rdIR g kk a b c nc rk dn wn nr S) (h : ∀ g', rdIR g' kk a b c nc rk dn wn nr ((rdqMember p r v S).2) → post (rdqMember p r v S).1 g') : wpX51_member post g p r v := by
  obtain ⟨rfl, I⟩ := R
  exact T51_member (h _ ⟨rfl, I⟩)
theorem Q51_condition {post : Int → (Int → Int) → (Int → Int) → (Int → Int) → (Int → Int) → Int → Prop} (R : rdIR g kk a b c nc rk dn wn nr S) (h : ∀ kk' a' b' c' nc', rdIR g kk' a' b' c' nc' rk dn wn nr ((rdqCondition t x y z S).2) → post (rdqCondition t x y z S).1 kk' a' b' c' nc') : wpX51_condition post kk a b c nc t x y z := by
  obtain ⟨rfl, I⟩ := R
  refine T51_condition I.1.1 (fun f => ?_) (fun f => ?_)
  · have e : rdqCondition t x y z (g, (kk, a, b, c, nc), rk, dn, wn, nr) = (nc, (g, (updI kk nc t, updI a nc x, updI b nc y, updI c nc z, nc + 1), rk, dn, wn, nr)) := pif_t f
    rw [e] at h
    exact h _ _ _ _ _ ⟨rfl, rdFit_C I.1 f.2 f.1, rdR_m I.2⟩
  · have e : rdqCondition t x y z (g, (kk, a, b, c, nc), rk, dn, wn, nr) = (rdCon nc t x y z, (g, (kk, a, b, c, nc), rk, dn, wn, nr)) := pif_f f
    rw [e] at h
    exact h _ _ _ _ _ ⟨rfl, I⟩
theorem Q51_rule {post : Int → (Int → Int) → (Int → Int) → (Int → Int) → Int → Prop} (R : rdIR g kk a b c nc rk dn wn nr S) (hv : v = 0 ∨ v = 1) (h : ∀ rk' dn' wn' nr', rdIR g kk a b c nc rk' dn' wn' nr' ((rdqRule r v x S).2) → post (rdqRule r v x S).1 rk' dn' wn' nr') : wpX51_rule post nc rk dn wn nr r v x := by
  obtain ⟨rfl, I⟩ := R
  refine T51_rule I.2.1 hv (fun f => ?_) (fun f => ?_)
  · have e : rdqRule r v x (g, (kk, a, b, c, nc), rk, dn, wn, nr) = (nr, (g, (kk, a, b, c, nc), updI rk nr r, updI dn nr v, updI wn nr x, nr + 1)) := pif_t f
    rw [e] at h
    exact h _ _ _ _ ⟨rfl, I.1, rdR_rule I.2 f hv⟩
  · have e : rdqRule r v x (g, (kk, a, b, c, nc), rk, dn, wn, nr) = (rdRul nc nr r x, (g, (kk, a, b, c, nc), rk, dn, wn, nr)) := pif_f f
    rw [e] at h
    exact h _ _ _ _ ⟨rfl, I⟩
theorem Q51_drop {post : Int → (Int → Int) → (Int → Int) → (Int → Int) → Int → Prop} (R : rdIR g kk a b c nc rk dn wn nr S) (h : ∀ rk' dn' wn' nr', rdIR g kk a b c nc rk' dn' wn' nr' ((rdqDrop i S).2) → post (rdqDrop i S).1 rk' dn' wn' nr') : wpX51_drop post rk dn wn nr i := by
  obtain ⟨rfl, I⟩ := R
  refine T51_drop I.2 (fun f => ?_) (fun f => ?_)
  · have e : rdqDrop i (g, (kk, a, b, c, nc), rk, dn, wn, nr) = (nr - 1, (g, (kk, a, b, c, nc), rdSh rk i (nr - 1), rdSh dn i (nr - 1), rdSh wn i (nr - 1), nr - 1)) := if_pos f
    rw [e] at h
    exact h _ _ _ _ ⟨rfl, I.1, rdR_drop I.2 f⟩
  · have e : rdqDrop i (g, (kk, a, b, c, nc), rk, dn, wn, nr) = (-1, (g, (kk, a, b, c, nc), rk, dn, wn, nr)) := if_neg f
    rw [e] at h
    exact h _ _ _ _ ⟨rfl, I⟩
theorem Q51_may {post : Int → (Int → Int) → Prop} (R : rdIR g kk a b c nc rk dn wn nr S) (h : ∀ h', post (rdqMay p gr pr cl ve w S) h') : wpX51_may post g kk a b c nc rk dn wn nr h_ p gr pr cl ve w := by
  obtain ⟨rfl, I⟩ := R
  exact T51_may I h
theorem Q51_asks {post : Int → (Int → Int) → Prop} (R : rdIR g kk a b c nc rk dn wn nr S) (h : ∀ h', post (rdqAsks x S) h') : wpX51_asks post g kk a b c nc h_ x := by
  obtain ⟨rfl, I⟩ := R
  exact T51_asks I.1 h
theorem Q51_ask {post : Int → (Int → Int) → Prop} (R : rdIR g kk a b c nc rk dn wn nr S) (hi : zR i) (h : ∀ h', post (rdqAsk x i S) h') : wpX51_ask post g kk a b c nc h_ x i := by
  obtain ⟨rfl, I⟩ := R
  exact T51_ask hi I.1 h
theorem Q51_within {post : Int → (Int → Int) → Prop} (R : rdIR g kk a b c nc rk dn wn nr S) (h : ∀ h', post (rdqWithin x y S) h') : wpX51_within post g kk a b c nc h_ x y := by
  obtain ⟨rfl, I⟩ := R
  exact T51_within I.1 h
theorem Q51_decides {post : Int → (Int → Int) → Prop} (R : rdIR g kk a b c nc rk dn wn nr S) (h : ∀ h', post (rdqDecides x S) h') : wpX51_decides post g kk a b c nc rk dn wn nr h_ x := by
  obtain ⟨rfl, I⟩ := R
  exact T51_decides I h
theorem Q51_sees {post : Int → (Int → Int) → Prop} (R : rdIR g kk a b c nc rk dn wn nr S) (h : ∀ h', post (rdqSees p v S) h') : wpX51_sees post g kk a b c nc rk dn wn nr h_ p v := by
  obtain ⟨rfl, I⟩ := R
  exact T51_sees I h
theorem Q51_matters {post : Int → (Int → Int) → Prop} (R : rdIR g kk a b c nc rk dn wn nr S) (h : ∀ h', post (rdqMatters x S) h') : wpX51_matters post g kk a b c nc rk dn wn nr h_ x := by
  obtain ⟨rfl, I⟩ := R
  exact T51_matters I h
theorem Q51_idle {post : Int → (Int → Int) → Prop} (R : rdIR g kk a b c nc rk dn wn nr S) (h : ∀ h', post (rdqIdle d y S) h') : wpX51_idle post g kk a b c nc rk dn wn nr h_ d y := by
  obtain ⟨rfl, I⟩ := R
  exact T51_idle I h
theorem Q51_apart {post : Int → (Int → Int) → Prop} (R : rdIR g kk a b c nc rk dn wn nr S) (h : ∀ h', post (rdqApart p r S) h') : wpX51_apart post g kk a b c nc rk dn wn nr h_ p r := by
  obtain ⟨rfl, I⟩ := R
  exact T51_apart I h
theorem Q51_allowed {post : Int → (Int → Int) → Prop} (R : rdIR g kk a b c nc rk dn wn nr S) (h : ∀ h', post (rdqAllowed S) h') : wpX51_allowed post g kk a b c nc rk dn wn nr h_  := by
  obtain ⟨rfl, I⟩ := R
  exact T51_allowed I h
theorem Q51_conditions {post : Int → Prop} (R : rdIR g kk a b c nc rk dn wn nr S) (h : post (rdqConditions S)) : wpX51_conditions post nc := by
  obtain ⟨rfl, I⟩ := R
  unfold wpX51_conditions
  exact h
theorem Q51_rules {post : Int → Prop} (R : rdIR g kk a b c nc rk dn wn nr S) (h : post (rdqRules S)) : wpX51_rules post nr := by
  obtain ⟨rfl, I⟩ := R
  unfold wpX51_rules
  exact h
end
