/-! FacetCountsModel (X53): rows one behind the other -/
theorem X53_isThing {post : Int32 → Prop} {x : Int32} (h1 : ∀ v, v < 40 → x = nI v → post 1) (h0 : (¬ ∃ v, v < 40 ∧ x = nI v) → post 0) : wpX53_isThing post x := by
  unfold wpX53_isThing
  refine ⟨fun c => h0 ?_, fun c1 => ⟨fun c => h0 ?_, fun c2 => ?_⟩⟩
  · rintro ⟨v, hv, rfl⟩; exact nI_pos (by omega) c
  · rintro ⟨v, hv, rfl⟩; exact nI_ge hv (by decide) c
  · obtain ⟨v, hv, e⟩ := nIx (x := x) (n := 40) rfl (by decide) (by grind) (by have : nI 40 = 40 := rfl; grind)
    exact h1 v hv e
theorem X53_isHead {post : Int32 → Prop} {x : Int32} (h1 : ∀ v, v < 8 → x = nI v → post 1) (h0 : (¬ ∃ v, v < 8 ∧ x = nI v) → post 0) : wpX53_isHead post x := by
  unfold wpX53_isHead
  refine ⟨fun c => h0 ?_, fun c1 => ⟨fun c => h0 ?_, fun c2 => ?_⟩⟩
  · rintro ⟨v, hv, rfl⟩; exact nI_pos (by omega) c
  · rintro ⟨v, hv, rfl⟩; exact nI_ge hv (by decide) c
  · obtain ⟨v, hv, e⟩ := nIx (x := x) (n := 8) rfl (by decide) (by grind) (by have : nI 8 = 8 := rfl; grind)
    exact h1 v hv e
theorem X53_isValue {post : Int32 → Prop} {x : Int32} (h1 : ∀ v, v < 32 → x = nI v → post 1) (h0 : (¬ ∃ v, v < 32 ∧ x = nI v) → post 0) : wpX53_isValue post x := by
  unfold wpX53_isValue
  refine ⟨fun c => h0 ?_, fun c1 => ⟨fun c => h0 ?_, fun c2 => ?_⟩⟩
  · rintro ⟨v, hv, rfl⟩; exact nI_pos (by omega) c
  · rintro ⟨v, hv, rfl⟩; exact nI_ge hv (by decide) c
  · obtain ⟨v, hv, e⟩ := nIx (x := x) (n := 32) rfl (by decide) (by grind) (by have : nI 32 = 32 := rfl; grind)
    exact h1 v hv e
/-- n rows, each once, are those of own -/
def ftR (own th hd vl : Nat → Int32) (n : Nat) : Prop := n ≤ 300 ∧ (∀ k, k < n → ∃ t h v, t < 40 ∧ h < 8 ∧ v < 32 ∧ th k = nI t ∧ hd k = nI h ∧ vl k = nI v ∧ bt (own (8 * t + h)) v = true) ∧
  (∀ t h v, t < 40 → h < 8 → v < 32 → bt (own (8 * t + h)) v = true → ∃ k, k < n ∧ th k = nI t ∧ hd k = nI h ∧ vl k = nI v) ∧ ∀ i j, i < n → j < n → th i = th j → hd i = hd j → vl i = vl j → i = j
theorem X53_find {post : Int32 → Prop} {th hd vl : Nat → Int32} {n : Nat} {x y z : Int32} (hn : n ≤ 300) (hp : ∀ k, k ≤ n → (k < n → th k = x ∧ hd k = y ∧ vl k = z) → (k = n → ∀ i, i < n → ¬ (th i = x ∧ hd i = y ∧ vl i = z)) → post (nI k)) : wpX53_find post (nI n) th hd vl x y z := by
  unfold wpX53_find
  refine nloopI (fun m (s : Int32) => wX53_find_3 (fun x => post x) x y z (nI n) th hd vl m s) (fun k => nI k) (fun k => ∀ i, i < k → ¬ (th i = x ∧ hd i = y ∧ vl i = z)) n (Nat.zero_le n) (fun i h => absurd h (Nat.not_lt_zero i)) (fun k _ hk hI => ?_)
  by_cases hkn : k = n
  · refine Or.inl (fun m => ?_)
    show wX53_find_3 _ x y z (nI n) th hd vl (m + 1) (nI k)
    rw [wX53_find_3, hkn]
    exact ⟨fun _ => hp n (Nat.le_refl n) (fun q => absurd q (Nat.lt_irrefl n)) (fun _ => by rw [hkn] at hI; exact hI), fun q => absurd (Int32.le_refl _) q⟩
  · have hk : k < n := by omega
    have hv : vp_in (nI k) 300 := vp_in_nI (by omega) (by decide)
    by_cases hm : th k = x ∧ hd k = y ∧ vl k = z
    · refine Or.inl (fun m => ?_)
      show wX53_find_3 _ x y z (nI n) th hd vl (m + 1) (nI k)
      rw [wX53_find_3]
      dsimp only
      rw [nI_clamp (by omega)]
      refine ⟨fun q => absurd q (nI_ge hk (by omega)), fun _ => ⟨hv, fun _ => ⟨hv, fun _ => ⟨hv, fun _ => hp k (by omega) (fun _ => hm) (fun q => absurd q hkn), fun q => absurd hm.2.2 q⟩, fun q => absurd hm.2.1 q⟩, fun q => absurd hm.1 q⟩⟩
    · refine Or.inr ⟨hk, fun i hi => ?_, fun m ih => ?_⟩
      · by_cases e : i = k
        · rw [e]; exact hm
        · exact hI i (by omega)
      · show wX53_find_3 _ x y z (nI n) th hd vl (m + 1) (nI k)
        rw [wX53_find_3]
        dsimp only
        rw [nI_clamp (by omega)]
        have go : ∀ w, w = nI k + 1 → wX53_find_3 (fun x => post x) x y z (nI n) th hd vl m w := fun w ew => by rw [ew, nI_1]; exact ih
        refine ⟨fun q => absurd q (nI_ge hk (by omega)), fun _ => ⟨hv, fun a => ⟨hv, fun b => ⟨hv, fun c => absurd ⟨a, b, c⟩ hm, fun _ => go⟩, fun _ => go⟩, fun _ => go⟩⟩
theorem clampx {x : Int32} {v : Nat} (hv : v < 2 ^ 31) (e : x = nI v) : x.toNatClampNeg = v := by rw [e, nI_clamp hv]
/-- a row comes: what own becomes is held by one row more -/
theorem ftR_add {own th hd vl : Nat → Int32} {n t h v : Nat} (H : ftR own th hd vl n) (hn : n < 300) (ht : t < 40) (hh : h < 8) (hv : v < 32) (hb : bt (own (8 * t + h)) v = false) :
    ftR (upd own (8 * t + h) (own (8 * t + h) ||| ((1 : Int32) <<< (nI v &&& 31)))) (upd th n (nI t)) (upd hd n (nI h)) (upd vl n (nI v)) (n + 1) := by
  have hbit : ∀ t' h' v', t' < 40 → h' < 8 → v' < 32 → (bt (upd own (8 * t + h) (own (8 * t + h) ||| ((1 : Int32) <<< (nI v &&& 31))) (8 * t' + h')) v' = true ↔ bt (own (8 * t' + h')) v' = true ∨ (t' = t ∧ h' = h ∧ v' = v)) := by
    intro t' h' v' q1 q2 q3
    by_cases e : 8 * t' + h' = 8 * t + h
    · have e1 : t' = t := by omega
      have e2 : h' = h := by omega
      subst e1; subst e2
      rw [pk_us, b_or, bt_one v hv v' q3, Bool.or_eq_true, decide_eq_true_eq]; simp
    · rw [pk_un e]
      constructor
      · exact Or.inl
      · rintro (q | ⟨a, b, _⟩)
        · exact q
        · exact absurd (by rw [a, b]) e
  obtain ⟨H0, H1, H2, H3⟩ := H
  refine ⟨by omega, fun k hk => ?_, fun t' h' v' q1 q2 q3 q4 => ?_, fun i j hi hj e1 e2 e3 => ?_⟩
  · by_cases e : k = n
    · subst e
      exact ⟨t, h, v, ht, hh, hv, pk_us, pk_us, pk_us, (hbit t h v ht hh hv).mpr (Or.inr ⟨rfl, rfl, rfl⟩)⟩
    · obtain ⟨t', h', v', a1, a2, a3, a4, a5, a6, a7⟩ := H1 k (by omega)
      exact ⟨t', h', v', a1, a2, a3, by rw [pk_un e]; exact a4, by rw [pk_un e]; exact a5, by rw [pk_un e]; exact a6, (hbit t' h' v' a1 a2 a3).mpr (Or.inl a7)⟩
  · rcases (hbit t' h' v' q1 q2 q3).mp q4 with q | ⟨a, b, c⟩
    · obtain ⟨k, hk, a, b, c⟩ := H2 t' h' v' q1 q2 q3 q
      have e : k ≠ n := by omega
      exact ⟨k, by omega, by rw [pk_un e]; exact a, by rw [pk_un e]; exact b, by rw [pk_un e]; exact c⟩
    · subst a; subst b; subst c
      exact ⟨n, by omega, pk_us, pk_us, pk_us⟩
  · have no : ∀ i, i < n → ¬ (th i = nI t ∧ hd i = nI h ∧ vl i = nI v) := by
      rintro i hi ⟨a, b, c⟩
      obtain ⟨t', h', v', a1, a2, a3, a4, a5, a6, a7⟩ := H1 i hi
      have z1 := (nI_eq (a := t') (b := t) (by omega) (by omega)).mp (by rw [← a4, a])
      have z2 := (nI_eq (a := h') (b := h) (by omega) (by omega)).mp (by rw [← a5, b])
      have z3 := (nI_eq (a := v') (b := v) (by omega) (by omega)).mp (by rw [← a6, c])
      subst z1; subst z2; subst z3
      rw [hb] at a7; cases a7
    by_cases ei : i = n <;> by_cases ej : j = n
    · omega
    · subst ei
      rw [pk_us, pk_un ej] at e1 e2 e3
      exact absurd ⟨e1.symm, e2.symm, e3.symm⟩ (no j (by omega))
    · subst ej
      rw [pk_us, pk_un ei] at e1 e2 e3
      exact absurd ⟨e1, e2, e3⟩ (no i (by omega))
    · rw [pk_un ei, pk_un ej] at e1 e2 e3
      exact H3 i j (by omega) (by omega) e1 e2 e3
theorem X53_row {post : Int32 → Int32 → Int32 → (Nat → Int32) → (Nat → Int32) → (Nat → Int32) → Int32 → Prop} {own th hd vl : Nat → Int32} {n : Nat} {fr x1 x2 x3 : Int32} (H : ftR own th hd vl n)
    (hp : ∀ th' hd' vl' n' fr', (fcRow own (nI n) x1 x2 x3).2.2 = nI n' → ftR (fcRow own (nI n) x1 x2 x3).2.1 th' hd' vl' n' → (fr' = 0 ∨ (fr' = fr ∧ (fcRow own (nI n) x1 x2 x3).2.1 = own)) → post (fcRow own (nI n) x1 x2 x3).1 0 (nI n') th' hd' vl' fr') : wpX53_row post (nI n) th hd vl fr x1 x2 x3 := by
  unfold wpX53_row
  have H0 := H.1
  have out : (rI x1 40 && rI x2 8 && rI x3 32) = false → post (-1) 0 (nI n) th hd vl fr := by
    intro hb
    have e : fcRow own (nI n) x1 x2 x3 = (-1, own, nI n) := by simp only [fcRow, hb]; rfl
    rw [e] at hp
    exact hp th hd vl n fr rfl H (Or.inr ⟨rfl, rfl⟩)
  refine X53_isThing (fun t ht e1 => ⟨fun c => absurd c (by decide), fun _ => ?_⟩) (fun h => ⟨fun _ => out (by rw [rI_f (x := x1) (by decide) h]; rfl), fun c => absurd rfl c⟩)
  refine X53_isHead (fun h hh e2 => ⟨fun c => absurd c (by decide), fun _ => ?_⟩) (fun h => ⟨fun _ => out (by rw [rI_f (x := x2) (by decide) h]; simp), fun c => absurd rfl c⟩)
  refine X53_isValue (fun v hv e3 => ⟨fun c => absurd c (by decide), fun _ => ?_⟩) (fun h => ⟨fun _ => out (by rw [rI_f (x := x3) (by decide) h]; simp), fun c => absurd rfl c⟩)
  subst e1; subst e2; subst e3
  have hb : (rI (nI t) 40 && rI (nI h) 8 && rI (nI v) 32) = true := by rw [rI_n ht (by decide), rI_n hh (by decide), rI_n hv (by decide)]; rfl
  simp only [fcRow, hb, if_true, nI_clamp (show t < 2 ^ 31 by omega), nI_clamp (show h < 2 ^ 31 by omega), nI_clamp (show v < 2 ^ 31 by omega)] at hp
  refine X53_find H.1 (fun k hk f1 f2 => ⟨fun c => ?_, fun c => ?_⟩)
  · have : k = n := by have := (nI_leI (a := n) (b := k) (by omega) (by omega)).mp c; omega
    subst this
    have hbo : bt (own (8 * t + h)) v = false := by
      cases e : bt (own (8 * t + h)) v with
      | false => rfl
      | true =>
        obtain ⟨i, hi, a, b, d⟩ := H.2.2.1 t h v ht hh hv e
        exact absurd ⟨a, b, d⟩ (f2 rfl i hi)
    simp only [hbo, Bool.false_eq_true, if_false] at hp
    refine ⟨fun d => ?_, fun d => ?_⟩
    · rw [if_pos d] at hp
      exact hp th hd vl k fr rfl H (Or.inr ⟨rfl, rfl⟩)
    · rw [if_neg d] at hp
      have hk3 : k < 300 := by
        rcases Nat.lt_or_ge k 300 with q | q
        · exact q
        · exact absurd (by rw [show k = 300 by omega]; rfl) d
      have hvi : vp_in (nI k) 300 := vp_in_nI hk3 (by decide)
      rw [nI_clamp (by omega)]
      refine ⟨hvi, fun a ea => ⟨hvi, fun b eb => ⟨hvi, fun e ee r er => ?_⟩⟩⟩
      subst ea; subst eb; subst ee
      rw [er, nI_1]
      exact hp _ _ _ (k + 1) 0 (nI_1 k) (ftR_add H hk3 ht hh hv hbo) (Or.inl rfl)
  · have hk : k < n := by
      rcases Nat.lt_or_ge k n with q | q
      · exact q
      · exact absurd (nI_le q (by omega)) c
    obtain ⟨t', h', v', a1, a2, a3, a4, a5, a6, a7⟩ := H.2.1 k hk
    obtain ⟨b1, b2, b3⟩ := f1 hk
    have z1 := (nI_eq (a := t') (b := t) (by omega) (by omega)).mp (by rw [← a4, b1])
    have z2 := (nI_eq (a := h') (b := h) (by omega) (by omega)).mp (by rw [← a5, b2])
    have z3 := (nI_eq (a := v') (b := v) (by omega) (by omega)).mp (by rw [← a6, b3])
    subst z1; subst z2; subst z3
    simp only [a7, if_true] at hp
    exact hp th hd vl n fr rfl H (Or.inr (by simp))
/-- a row goes: the last one takes its place -/
theorem ftR_del {own th hd vl : Nat → Int32} {n k t h v : Nat} (H : ftR own th hd vl (n + 1)) (hk : k < n + 1) (ht : t < 40) (hh : h < 8) (hv : v < 32) (f : th k = nI t ∧ hd k = nI h ∧ vl k = nI v) :
    ftR (upd own (8 * t + h) (own (8 * t + h) &&& (((1 : Int32) <<< (nI v &&& 31)) ^^^ (-1)))) (upd th k (th n)) (upd hd k (hd n)) (upd vl k (vl n)) n := by
  have hbit : ∀ t' h' v', t' < 40 → h' < 8 → v' < 32 → (bt (upd own (8 * t + h) (own (8 * t + h) &&& (((1 : Int32) <<< (nI v &&& 31)) ^^^ (-1))) (8 * t' + h')) v' = true ↔ bt (own (8 * t' + h')) v' = true ∧ ¬ (t' = t ∧ h' = h ∧ v' = v)) := by
    intro t' h' v' q1 q2 q3
    by_cases e : 8 * t' + h' = 8 * t + h
    · have e1 : t' = t := by omega
      have e2 : h' = h := by omega
      subst e1; subst e2
      rw [pk_us, b_and, bt_not _ q3, bt_one v hv v' q3]; simp
    · rw [pk_un e]
      constructor
      · exact fun q => ⟨q, fun z => e (by rw [z.1, z.2.1])⟩
      · exact fun q => q.1
  obtain ⟨H0, H1, H2, H3⟩ := H
  have src : ∀ i, i < n → ∃ i', i' < n + 1 ∧ i' ≠ k ∧ upd th k (th n) i = th i' ∧ upd hd k (hd n) i = hd i' ∧ upd vl k (vl n) i = vl i' ∧ (i = k → i' = n) ∧ (i ≠ k → i' = i) := by
    intro i hi
    by_cases e : i = k
    · subst e
      exact ⟨n, by omega, by omega, pk_us, pk_us, pk_us, fun _ => rfl, fun q => absurd rfl q⟩
    · exact ⟨i, by omega, e, pk_un e, pk_un e, pk_un e, fun q => absurd q e, fun _ => rfl⟩
  refine ⟨by omega, fun i hi => ?_, fun t' h' v' q1 q2 q3 q4 => ?_, fun i j hi hj e1 e2 e3 => ?_⟩
  · obtain ⟨i', g1, g2, g3, g4, g5, -, -⟩ := src i hi
    obtain ⟨t', h', v', a1, a2, a3, a4, a5, a6, a7⟩ := H1 i' g1
    refine ⟨t', h', v', a1, a2, a3, by rw [g3]; exact a4, by rw [g4]; exact a5, by rw [g5]; exact a6, (hbit t' h' v' a1 a2 a3).mpr ⟨a7, ?_⟩⟩
    rintro ⟨rfl, rfl, rfl⟩
    exact g2 (H3 i' k g1 hk (by rw [a4, f.1]) (by rw [a5, f.2.1]) (by rw [a6, f.2.2]))
  · obtain ⟨q5, q6⟩ := (hbit t' h' v' q1 q2 q3).mp q4
    obtain ⟨i, hi, a, b, c⟩ := H2 t' h' v' q1 q2 q3 q5
    have hik : i ≠ k := by
      intro e; subst e
      refine q6 ⟨?_, ?_, ?_⟩
      · exact (nI_eq (by omega) (by omega)).mp (by rw [← a, f.1])
      · exact (nI_eq (by omega) (by omega)).mp (by rw [← b, f.2.1])
      · exact (nI_eq (by omega) (by omega)).mp (by rw [← c, f.2.2])
    by_cases e : i = n
    · subst e
      exact ⟨k, by omega, by rw [pk_us]; exact a, by rw [pk_us]; exact b, by rw [pk_us]; exact c⟩
    · exact ⟨i, by omega, by rw [pk_un hik]; exact a, by rw [pk_un hik]; exact b, by rw [pk_un hik]; exact c⟩
  · obtain ⟨i', g1, g2, g3, g4, g5, g6, g7⟩ := src i hi
    obtain ⟨j', k1, k2, k3, k4, k5, k6, k7⟩ := src j hj
    have := H3 i' j' g1 k1 (by rw [← g3, ← k3, e1]) (by rw [← g4, ← k4, e2]) (by rw [← g5, ← k5, e3])
    by_cases ei : i = k <;> by_cases ej : j = k
    · omega
    · have := g6 ei; have := k7 ej; omega
    · have := g7 ei; have := k6 ej; omega
    · have := g7 ei; have := k7 ej; omega
theorem X53_drop {post : Int32 → Int32 → Int32 → (Nat → Int32) → (Nat → Int32) → (Nat → Int32) → Int32 → Prop} {own th hd vl : Nat → Int32} {n : Nat} {fr x1 x2 x3 : Int32} (H : ftR own th hd vl n)
    (hp : ∀ th' hd' vl' n' fr', (fcDrop own (nI n) x1 x2 x3).2.2 = nI n' → ftR (fcDrop own (nI n) x1 x2 x3).2.1 th' hd' vl' n' → (fr' = 0 ∨ (fr' = fr ∧ (fcDrop own (nI n) x1 x2 x3).2.1 = own)) → post (fcDrop own (nI n) x1 x2 x3).1 0 (nI n') th' hd' vl' fr') : wpX53_drop post (nI n) th hd vl fr x1 x2 x3 := by
  unfold wpX53_drop
  have H0 := H.1
  have out : (rI x1 40 && rI x2 8 && rI x3 32) = false → post (-1) 0 (nI n) th hd vl fr := by
    intro hb
    have e : fcDrop own (nI n) x1 x2 x3 = (-1, own, nI n) := by simp only [fcDrop, hb]; rfl
    rw [e] at hp
    exact hp th hd vl n fr rfl H (Or.inr ⟨rfl, rfl⟩)
  refine X53_isThing (fun t ht e1 => ⟨fun c => absurd c (by decide), fun _ => ?_⟩) (fun h => ⟨fun _ => out (by rw [rI_f (x := x1) (by decide) h]; rfl), fun c => absurd rfl c⟩)
  refine X53_isHead (fun h hh e2 => ⟨fun c => absurd c (by decide), fun _ => ?_⟩) (fun h => ⟨fun _ => out (by rw [rI_f (x := x2) (by decide) h]; simp), fun c => absurd rfl c⟩)
  refine X53_isValue (fun v hv e3 => ⟨fun c => absurd c (by decide), fun _ => ?_⟩) (fun h => ⟨fun _ => out (by rw [rI_f (x := x3) (by decide) h]; simp), fun c => absurd rfl c⟩)
  subst e1; subst e2; subst e3
  have hb : (rI (nI t) 40 && rI (nI h) 8 && rI (nI v) 32) = true := by rw [rI_n ht (by decide), rI_n hh (by decide), rI_n hv (by decide)]; rfl
  simp only [fcDrop, hb, if_true, nI_clamp (show t < 2 ^ 31 by omega), nI_clamp (show h < 2 ^ 31 by omega), nI_clamp (show v < 2 ^ 31 by omega)] at hp
  refine X53_find H.1 (fun k hk f1 f2 => ⟨fun c => ?_, fun c r er => ?_⟩)
  · have : k = n := (nI_eq (by omega) (by omega)).mp c
    subst this
    have hbo : bt (own (8 * t + h)) v = false := by
      cases e : bt (own (8 * t + h)) v with
      | false => rfl
      | true =>
        obtain ⟨i, hi, a, b, d⟩ := H.2.2.1 t h v ht hh hv e
        exact absurd ⟨a, b, d⟩ (f2 rfl i hi)
    simp only [hbo, Bool.false_eq_true, if_false] at hp
    exact hp th hd vl k fr rfl H (Or.inr (by simp))
  · have hk : k < n := by
      rcases Nat.lt_or_ge k n with q | q
      · exact q
      · exact absurd (by rw [show k = n by omega]) c
    obtain ⟨n, rfl⟩ : ∃ n', n = n' + 1 := ⟨n - 1, by omega⟩
    rw [nI_pred] at er
    obtain ⟨t', h', v', a1, a2, a3, a4, a5, a6, a7⟩ := H.2.1 k hk
    obtain ⟨b1, b2, b3⟩ := f1 hk
    have z1 := (nI_eq (a := t') (b := t) (by omega) (by omega)).mp (by rw [← a4, b1])
    have z2 := (nI_eq (a := h') (b := h) (by omega) (by omega)).mp (by rw [← a5, b2])
    have z3 := (nI_eq (a := v') (b := v) (by omega) (by omega)).mp (by rw [← a6, b3])
    subst z1; subst z2; subst z3
    simp only [a7, if_true, nI_pred] at hp
    subst er
    have hvn : vp_in (nI n) 300 := vp_in_nI (by omega) (by decide)
    have hvk : vp_in (nI k) 300 := vp_in_nI (by omega) (by decide)
    rw [nI_clamp (show n < 2 ^ 31 by omega), nI_clamp (show k < 2 ^ 31 by omega)]
    refine ⟨hvn, fun w1 e1 => ⟨hvk, fun g1 q1 => ⟨hvn, fun w2 e2 => ⟨hvk, fun g2 q2 => ⟨hvn, fun w3 e3 => ⟨hvk, fun g3 q3 => ?_⟩⟩⟩⟩⟩⟩
    subst e1; subst e2; subst e3; subst q1; subst q2; subst q3
    exact hp _ _ _ n 0 rfl (ftR_del H hk a1 a2 a3 ⟨a4, a5, a6⟩) (Or.inl rfl)
