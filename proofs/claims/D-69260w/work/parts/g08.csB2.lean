/-! ClassifySort: the reference (X52) does what a call does -/
def ctIR (n f t m so qs : Int) (L O R Th s me pl : Int → Int) (u : Int) (S : ctT) : Prop := ∃ pl0, ((0 ≤ n ∧ n ≤ 20) ∧ (0 ≤ m ∧ m ≤ 40) ∧ (0 ≤ t ∧ t ≤ 8)) ∧ csAx n L O R m ∧ csSd n L O R Th m s ∧ csZ n s ∧ (0 ≤ qs ∧ qs ≤ u) ∧ (¬ so = 0 → ∀ e, 0 ≤ e → e < 20 → pl e = pl0 e) ∧ S = ((n, f, t, m, so, qs), L, O, R, Th, s, me, pl0)
section
variable {n m f t so qs u a b c x d e i k y fc : Int} {L O R Th s me pl lk fa mk fi mo be ne : Int → Int} {S : ctT}
theorem Q52_class0 {post : Int → Int → Int → (Int → Int) → Prop} (I : ctIR n f t m so qs L O R Th s me pl u S) (h : ∀ n' so' s', ctIR n' f t m so' qs L O R Th s' me pl u ((ctClass0 S).2) → post (ctClass0 S).1 n' so' s') : wpX52_class0 post n m so L O R Th s := by
  obtain ⟨pl0, ⟨hn, hm, ht⟩, hA, hS, hZ, hq, hp, rfl⟩ := I
  refine T52_class0 hn hm hS hZ (fun z => ?_) (fun z => ?_)
  · have e0 : ctClass0 ((n, f, t, m, so, qs), L, O, R, Th, s, me, pl0) = (-4, ((n, f, t, m, so, qs), L, O, R, Th, s, me, pl0)) := if_pos z
    rw [e0] at h
    exact h _ _ _ ⟨_, ⟨hn, hm, ht⟩, hA, hS, hZ, hq, hp, rfl⟩
  · have e0 : ctClass0 ((n, f, t, m, so, qs), L, O, R, Th, s, me, pl0) = (n, ((n + 1, f, t, m, 0, qs), L, O, R, Th, csCl (n + 1) L O R Th m s, me, pl0)) := if_neg (by omega)
    rw [e0] at h
    exact h _ _ _ ⟨_, ⟨by omega, hm, ht⟩, fun k k0 k1 => by have := hA k k0 k1; unfold csH at this ⊢; omega, csSd_cl (by omega) (csSd_cs hS hZ ⟨hn.1, z⟩), csZ_cl (csZ_n hZ), hq, fun z => absurd rfl z, rfl⟩
theorem Q52_thing {post : Int → Int → Prop} (I : ctIR n f t m so qs L O R Th s me pl u S) (h : ∀ t', ctIR n f t' m so qs L O R Th s me pl u ((ctThing S).2) → post (ctThing S).1 t') : wpX52_thing post t := by
  obtain ⟨pl0, ⟨hn, hm, ht⟩, hA, hS, hZ, hq, hp, rfl⟩ := I
  refine T52_thing ht (fun z => ?_) (fun z => ?_)
  · have e0 : ctThing ((n, f, t, m, so, qs), L, O, R, Th, s, me, pl0) = (-4, ((n, f, t, m, so, qs), L, O, R, Th, s, me, pl0)) := if_pos z
    rw [e0] at h
    exact h _ ⟨_, ⟨hn, hm, ht⟩, hA, hS, hZ, hq, hp, rfl⟩
  · have e0 : ctThing ((n, f, t, m, so, qs), L, O, R, Th, s, me, pl0) = (t, ((n, f, t + 1, m, so, qs), L, O, R, Th, s, me, pl0)) := if_neg (by omega)
    rw [e0] at h
    exact h _ ⟨_, ⟨hn, hm, by omega⟩, hA, hS, hZ, hq, hp, rfl⟩
theorem Q52_axiom {post : Int → Int → Int → (Int → Int) → (Int → Int) → (Int → Int) → (Int → Int) → (Int → Int) → (Int → Int) → Prop} (I : ctIR n f t m so qs L O R Th s me pl u S) (h : ∀ m' so' L' O' R' Th' s' mo', ctIR n f t m' so' qs L' O' R' Th' s' me pl u ((ctAxiom a b c S).2) → post (ctAxiom a b c S).1 m' so' L' O' R' Th' s' mo') : wpX52_axiom post n m so L O R Th s mo a b c := by
  obtain ⟨pl0, ⟨hn, hm, ht⟩, hA, hS, hZ, hq, hp, rfl⟩ := I
  refine T52_axiom hn hm hA hS (fun w => ?_) (fun w z => ?_) (fun w z z2 => ?_) (fun w z z2 A' S' mo' => ?_)
  · have e0 : ctAxiom a b c ((n, f, t, m, so, qs), L, O, R, Th, s, me, pl0) = (-1, ((n, f, t, m, so, qs), L, O, R, Th, s, me, pl0)) := pif_f w
    rw [e0] at h
    exact h _ _ _ _ _ _ _ _ ⟨_, ⟨hn, hm, ht⟩, hA, hS, hZ, hq, hp, rfl⟩
  · have e0 : ctAxiom a b c ((n, f, t, m, so, qs), L, O, R, Th, s, me, pl0) = (-2, ((n, f, t, m, so, qs), L, O, R, Th, s, me, pl0)) := (pif_t w).trans (if_pos z)
    rw [e0] at h
    exact h _ _ _ _ _ _ _ _ ⟨_, ⟨hn, hm, ht⟩, hA, hS, hZ, hq, hp, rfl⟩
  · have e0 : ctAxiom a b c ((n, f, t, m, so, qs), L, O, R, Th, s, me, pl0) = (-4, ((n, f, t, m, so, qs), L, O, R, Th, s, me, pl0)) := (pif_t w).trans ((if_neg z).trans (if_pos z2))
    rw [e0] at h
    exact h _ _ _ _ _ _ _ _ ⟨_, ⟨hn, hm, ht⟩, hA, hS, hZ, hq, hp, rfl⟩
  · have e0 : ctAxiom a b c ((n, f, t, m, so, qs), L, O, R, Th, s, me, pl0) = (m, ((n, f, t, m + 1, 0, qs), updI L m a, updI O m b, updI R m (csGl c), updI Th m 1, csCl n (updI L m a) (updI O m b) (updI R m (csGl c)) (updI Th m 1) (m + 1) (csFg n (updI L m a) (updI O m b) (updI R m (csGl c)) (updI Th m 1) (m + 1) m 0 s), me, pl0)) := (pif_t w).trans ((if_neg z).trans (if_neg (by omega)))
    rw [e0] at h
    exact h _ _ _ _ _ _ _ _ ⟨_, ⟨hn, by omega, ht⟩, A', csSd_cl hn.2 S', csZ_cl (csZ_fg hZ), hq, fun z => absurd rfl z, rfl⟩
theorem Q52_remove {post : Int → Int → (Int → Int) → (Int → Int) → (Int → Int) → (Int → Int) → Prop} (I : ctIR n f t m so qs L O R Th s me pl u S) (h : ∀ so' Th' s' be' mo', ctIR n f t m so' qs L O R Th' s' me pl u ((ctRemove x S).2) → post (ctRemove x S).1 so' Th' s' be' mo') : wpX52_remove post n m so L O R Th s be mo x := by
  obtain ⟨pl0, ⟨hn, hm, ht⟩, hA, hS, hZ, hq, hp, rfl⟩ := I
  refine T52_remove hn hm hA hS (fun w => ?_) (fun w S' be' mo' => ?_)
  · have e0 : ctRemove x ((n, f, t, m, so, qs), L, O, R, Th, s, me, pl0) = (-1, ((n, f, t, m, so, qs), L, O, R, Th, s, me, pl0)) := if_neg w
    rw [e0] at h
    exact h _ _ _ _ _ ⟨_, ⟨hn, hm, ht⟩, hA, hS, hZ, hq, hp, rfl⟩
  · have e0 : ctRemove x ((n, f, t, m, so, qs), L, O, R, Th, s, me, pl0) = (csLo s (csCl n L O R (updI Th x 0) m (csFg n L O R Th m x 1 s)), ((n, f, t, m, 0, qs), L, O, R, updI Th x 0, csCl n L O R (updI Th x 0) m (csFg n L O R Th m x 1 s), me, pl0)) := if_pos w
    rw [e0] at h
    exact h _ _ _ _ _ ⟨_, ⟨hn, hm, ht⟩, hA, csSd_cl hn.2 S', csZ_cl (csZ_fg hZ), hq, fun z => absurd rfl z, rfl⟩
theorem Q52_fuel {post : Int → Int → Int → (Int → Int) → Prop} (I : ctIR n f t m so qs L O R Th s me pl u S) (h : ∀ f' so' s', ctIR n f' t m so' qs L O R Th s' me pl u ((ctFuel x S).2) → post (ctFuel x S).1 f' so' s') : wpX52_fuel post f so s x := by
  obtain ⟨pl0, ⟨hn, hm, ht⟩, hA, hS, hZ, hq, hp, rfl⟩ := I
  refine T52_fuel (fun w => ?_) (fun w => ?_)
  · have e0 : ctFuel x ((n, f, t, m, so, qs), L, O, R, Th, s, me, pl0) = (-2, ((n, f, t, m, so, qs), L, O, R, Th, s, me, pl0)) := if_neg w
    rw [e0] at h
    exact h _ _ _ ⟨_, ⟨hn, hm, ht⟩, hA, hS, hZ, hq, hp, rfl⟩
  · have e0 : ctFuel x ((n, f, t, m, so, qs), L, O, R, Th, s, me, pl0) = (csOp s, ((n, x, t, m, 0, qs), L, O, R, Th, csFo s, me, pl0)) := if_pos w
    rw [e0] at h
    exact h _ _ _ ⟨_, ⟨hn, hm, ht⟩, hA, csSd_fo hn.2 hS, csZ_fo hZ, hq, fun z => absurd rfl z, rfl⟩
theorem Q52_known {post : Int → Prop} (I : ctIR n f t m so qs L O R Th s me pl u S) (h : post (ctKnown a b S)) : wpX52_known post n s a b := by
  obtain ⟨pl0, ⟨hn, hm, ht⟩, hA, hS, hZ, hq, hp, rfl⟩ := I
  refine T52_known hn (fun w => ?_) (fun w => ?_)
  · have e0 : ctKnown a b ((n, f, t, m, so, qs), L, O, R, Th, s, me, pl0) = -1 := pif_f w
    rw [e0] at h; exact h
  · have e0 : ctKnown a b ((n, f, t, m, so, qs), L, O, R, Th, s, me, pl0) = s (21 * a + csGl b) := pif_t w
    rw [e0] at h; exact h
theorem Q52_ask {post : Int → (Int → Int) → (Int → Int) → (Int → Int) → Int → Prop} (I : ctIR n f t m so qs L O R Th s me pl u S) (h : ∀ fa' mk' fi' fc', post (ctAsk a b S) fa' mk' fi' fc') : wpX52_ask post n m f L O R Th fa mk fi fc a b := by
  obtain ⟨pl0, ⟨hn, hm, ht⟩, hA, hS, hZ, hq, hp, rfl⟩ := I
  refine T52_ask hn hm hA (fun w => ?_) (fun w fa' mk' fi' fc' => ?_)
  · have e0 : ctAsk a b ((n, f, t, m, so, qs), L, O, R, Th, s, me, pl0) = -1 := pif_f w
    rw [e0] at h; exact h _ _ _ _
  · have e0 : ctAsk a b ((n, f, t, m, so, qs), L, O, R, Th, s, me, pl0) = (csAn L O R Th m f (csGl b) (csOne a)).1 := pif_t w
    rw [e0] at h; exact h _ _ _ _
theorem Q52_run {post : Int → Int → Int → (Int → Int) → (Int → Int) → (Int → Int) → (Int → Int) → (Int → Int) → (Int → Int) → Int → Int → Prop} (I : ctIR n f t m so qs L O R Th s me pl u S) (hu : u ≤ 900000) (h : ∀ qs' so' s' pl' lk' fa' mk' fi' fc' k', ctIR n f t m so' qs' L O R Th s' me pl' (u + 860) ((ctRun S).2) → post (ctRun S).1 qs' so' s' pl' lk' fa' mk' fi' fc' k') : wpX52_run post n m f qs L O R Th s pl lk fa mk fi fc := by
  obtain ⟨pl0, ⟨hn, hm, ht⟩, hA, hS, hZ, hq, hp, rfl⟩ := I
  have q9 := csRu_s (f := f) hm.1 hn hA hS n.toNat (by omega)
  exact T52_run hn hm hA hS (by omega) (fun pl' lk' fa' mk' fi' fc' e => h _ _ _ _ _ _ _ _ _ _ ⟨_, ⟨hn, hm, ht⟩, hA, q9.1, csZ_ru hm.1 hn hZ n.toNat (by omega), ⟨by have := q9.2.1; omega, by have := q9.2.2; omega⟩, fun _ => e, rfl⟩)
theorem Q52_parent {post : Int → Prop} (I : ctIR n f t m so qs L O R Th s me pl u S) (hi : zR i) (h : post (ctParent c i S)) : wpX52_parent post n so s pl c i := by
  obtain ⟨pl0, ⟨hn, hm, ht⟩, hA, hS, hZ, hq, hp, rfl⟩ := I
  refine T52_parent hn hi (fun w => ?_) (fun w z => ?_) (fun w z => ?_)
  · have e0 : ctParent c i ((n, f, t, m, so, qs), L, O, R, Th, s, me, pl0) = -1 := if_neg w
    rw [e0] at h; exact h
  · have e0 : ctParent c i ((n, f, t, m, so, qs), L, O, R, Th, s, me, pl0) = -3 := (if_pos w).trans (if_pos z)
    rw [e0] at h; exact h
  · have e0 : ctParent c i ((n, f, t, m, so, qs), L, O, R, Th, s, me, pl0) = csKt (csPp n s pl0 c) n.toNat i := (if_pos w).trans (if_neg z)
    rw [e0] at h
    rw [csKt_c (fun k k0 k1 => csPp_c (fun e e0 e1 => hp z e e0 (by omega)) w ⟨k0, by omega⟩)]
    exact h
theorem Q52_child {post : Int → Prop} (I : ctIR n f t m so qs L O R Th s me pl u S) (hi : zR i) (h : post (ctChild c i S)) : wpX52_child post n so s pl c i := by
  obtain ⟨pl0, ⟨hn, hm, ht⟩, hA, hS, hZ, hq, hp, rfl⟩ := I
  refine T52_child hn hi (fun w => ?_) (fun w z => ?_) (fun w z => ?_)
  · have e0 : ctChild c i ((n, f, t, m, so, qs), L, O, R, Th, s, me, pl0) = -1 := if_neg w
    rw [e0] at h; exact h
  · have e0 : ctChild c i ((n, f, t, m, so, qs), L, O, R, Th, s, me, pl0) = -3 := (if_pos w).trans (if_pos z)
    rw [e0] at h; exact h
  · have e0 : ctChild c i ((n, f, t, m, so, qs), L, O, R, Th, s, me, pl0) = csKt (csPc n s pl0 c) n.toNat i := (if_pos w).trans (if_neg z)
    rw [e0] at h
    rw [csKt_c (fun k k0 k1 => csPc_c (fun e e0 e1 => hp z e e0 (by omega)) w ⟨k0, by omega⟩)]
    exact h
theorem Q52_equal {post : Int → Prop} (I : ctIR n f t m so qs L O R Th s me pl u S) (hi : zR i) (h : post (ctEqual c i S)) : wpX52_equal post n so s c i := by
  obtain ⟨pl0, ⟨hn, hm, ht⟩, hA, hS, hZ, hq, hp, rfl⟩ := I
  refine T52_equal hn hi (fun w => ?_) (fun w z => ?_) (fun w z => ?_)
  · have e0 : ctEqual c i ((n, f, t, m, so, qs), L, O, R, Th, s, me, pl0) = -1 := if_neg w
    rw [e0] at h; exact h
  · have e0 : ctEqual c i ((n, f, t, m, so, qs), L, O, R, Th, s, me, pl0) = -3 := (if_pos w).trans (if_pos z)
    rw [e0] at h; exact h
  · have e0 : ctEqual c i ((n, f, t, m, so, qs), L, O, R, Th, s, me, pl0) = csKt (fun d => csB s c d ∧ csB s d c) n.toNat i := (if_pos w).trans (if_neg z)
    rw [e0] at h; exact h
theorem Q52_empty {post : Int → Prop} (I : ctIR n f t m so qs L O R Th s me pl u S) (hi : zR i) (h : post (ctEmpty i S)) : wpX52_empty post n so pl i := by
  obtain ⟨pl0, ⟨hn, hm, ht⟩, hA, hS, hZ, hq, hp, rfl⟩ := I
  refine T52_empty hn hi (fun z => ?_) (fun z => ?_)
  · have e0 : ctEmpty i ((n, f, t, m, so, qs), L, O, R, Th, s, me, pl0) = -3 := if_pos z
    rw [e0] at h; exact h
  · have e0 : ctEmpty i ((n, f, t, m, so, qs), L, O, R, Th, s, me, pl0) = csKt (fun d => pl0 d = 0) n.toNat i := if_neg z
    rw [e0] at h
    rw [csKt_c (r := fun d => pl0 d = 0) (fun k k0 k1 => by rw [hp z k k0 (by omega)])]
    exact h
theorem Q52_open {post : Int → Prop} (I : ctIR n f t m so qs L O R Th s me pl u S) (hi : zR i) (h : post (ctOpen i S)) : wpX52_open post s i := by
  obtain ⟨pl0, ⟨hn, hm, ht⟩, hA, hS, hZ, hq, hp, rfl⟩ := I
  have h : post (csOa s i) := h
  unfold csOa at h
  refine T52_open hi (fun e => ?_) (fun k k0 k1 e => ?_)
  · rw [pif_t e] at h; exact h
  · rw [pif_f (by omega), e] at h; exact h
theorem Q52_put {post : Int → (Int → Int) → Prop} (I : ctIR n f t m so qs L O R Th s me pl u S) (h : ∀ me', ctIR n f t m so qs L O R Th s me' pl u ((ctPut k c S).2) → post (ctPut k c S).1 me') : wpX52_put post n t me k c := by
  obtain ⟨pl0, ⟨hn, hm, ht⟩, hA, hS, hZ, hq, hp, rfl⟩ := I
  refine T52_put hn ht (fun w => ?_) (fun w => ?_)
  · have e0 : ctPut k c ((n, f, t, m, so, qs), L, O, R, Th, s, me, pl0) = (-1, ((n, f, t, m, so, qs), L, O, R, Th, s, me, pl0)) := if_neg w
    rw [e0] at h
    exact h _ ⟨_, ⟨hn, hm, ht⟩, hA, hS, hZ, hq, hp, rfl⟩
  · have e0 : ctPut k c ((n, f, t, m, so, qs), L, O, R, Th, s, me, pl0) = ((if me (20 * k + c) = 0 then 1 else 0), ((n, f, t, m, so, qs), L, O, R, Th, s, updI me (20 * k + c) 1, pl0)) := if_pos w
    rw [e0] at h
    exact h _ ⟨_, ⟨hn, hm, ht⟩, hA, hS, hZ, hq, hp, rfl⟩
theorem Q52_type {post : Int → (Int → Int) → (Int → Int) → (Int → Int) → Int → Prop} (I : ctIR n f t m so qs L O R Th s me pl u S) (hi : zR i) (h : ∀ fa' mk' fi' fc', post (ctType x i S) fa' mk' fi' fc') : wpX52_type post n t m f so L O R Th me s pl fa mk fi fc x i := by
  obtain ⟨pl0, ⟨hn, hm, ht⟩, hA, hS, hZ, hq, hp, rfl⟩ := I
  refine T52_type hn hm hA ht.2 hi (fun w => ?_) (fun w z => ?_) (fun w z z2 fa' mk' fi' k' => ?_) (fun w z z2 fa' mk' fi' k' => ?_)
  · have e0 : ctType x i ((n, f, t, m, so, qs), L, O, R, Th, s, me, pl0) = -1 := if_neg w
    rw [e0] at h; exact h _ _ _ _
  · have e0 : ctType x i ((n, f, t, m, so, qs), L, O, R, Th, s, me, pl0) = -3 := (if_pos w).trans (if_pos z)
    rw [e0] at h; exact h _ _ _ _
  · have e0 : ctType x i ((n, f, t, m, so, qs), L, O, R, Th, s, me, pl0) = -5 := (if_pos w).trans ((if_neg z).trans (pif_t z2))
    rw [e0] at h; exact h _ _ _ _
  · have e0 : ctType x i ((n, f, t, m, so, qs), L, O, R, Th, s, me, pl0) = csKt (csTy n s pl0 L O R Th m f me x) n.toNat i := (if_pos w).trans ((if_neg z).trans (pif_f z2))
    rw [e0] at h
    rw [csKt_c (fun k k0 k1 => csTy_c (fun e e0 e1 => hp z e e0 (by omega)) ⟨k0, by omega⟩)]
    exact h _ _ _ _
theorem Q52_trace {post : Int → (Int → Int) → (Int → Int) → (Int → Int) → Int → (Int → Int) → Prop} (I : ctIR n f t m so qs L O R Th s me pl u S) (hi : zR i) (h : ∀ fa' mk' fi' fc' ne', post (ctTrace a b i S) fa' mk' fi' fc' ne') : wpX52_trace post n m f L O R Th fa mk fi fc ne a b i := by
  obtain ⟨pl0, ⟨hn, hm, ht⟩, hA, hS, hZ, hq, hp, rfl⟩ := I
  refine T52_trace hn hm hA hi (fun w => ?_) (fun w z fa' mk' fi' fc' ne' => ?_) (fun w z l' el nel mk' fi' hv hk hb ne0 hz fa' ne' => ?_)
  · have e0 : ctTrace a b i ((n, f, t, m, so, qs), L, O, R, Th, s, me, pl0) = -1 := pif_f w
    rw [e0] at h; exact h _ _ _ _ _
  · have e0 : ctTrace a b i ((n, f, t, m, so, qs), L, O, R, Th, s, me, pl0) = -6 := (pif_t w).trans (pif_t z)
    rw [e0] at h; exact h _ _ _ _ _
  · rw [csTa_tr hm hn hA el nel hv hk hb hz]
    subst el
    have e0 : ctTrace a b i ((n, f, t, m, so, qs), L, O, R, Th, s, me, pl0) = pif (csTr L O R (csAn L O R Th m f (csGl b) (csOne a)).2.2 i = -6) (-6) ((csAn L O R Th m f (csGl b) (csOne a)).2.2.getD (csTr L O R (csAn L O R Th m f (csGl b) (csOne a)).2.2 i).toNat 0) := (pif_t w).trans (pif_f (fun y => y.elim (fun y1 => y1 z) nel))
    rw [e0] at h; exact h _ _ _ _ _
theorem Q52_count {post : Int → Prop} (I : ctIR n f t m so qs L O R Th s me pl u S) (h : post (ctCount x S)) : wpX52_count post n t m qs so Th s pl x := by
  obtain ⟨pl0, ⟨hn, hm, ht⟩, hA, hS, hZ, hq, hp, rfl⟩ := I
  refine T52_count hn hm ?_
  rw [csCt_c hn.1 (fun z e e0 e1 => hp z e e0 (by omega))]
  exact h
end
