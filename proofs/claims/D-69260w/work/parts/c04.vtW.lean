/-! VersionTrans: one state for both sides; the reference (X48): versions -/
/-- what lies in rows: vr k v is 0 for no row of the triple k and the version v, 1 for 'not there', 2 for 'there' -/
def vtR (rt rv re : Int → Int) (n : Int) (vr : Int → Int → Int) : Prop := (∀ i, 0 ≤ i → i < n → (0 ≤ rt i ∧ rt i < 200) ∧ vr (rt i) (rv i) = if re i = 0 then 1 else 2) ∧ (∀ k v, ¬ vr k v = 0 → ∃ i, (0 ≤ i ∧ i < n) ∧ rt i = k ∧ rv i = v) ∧ ∀ i j, 0 ≤ i → i < n → 0 ≤ j → j < n → rt i = rt j → rv i = rv j → i = j
/-- a triple is there in a version -/
def vtTh (vr : Int → Int → Int) (k v : Int) : Prop := ∃ u, u ≤ v ∧ vr k u = 2 ∧ ∀ w, u < w → w ≤ v → vr k w = 0
/-- a triple has a row above a version -/
def vtAb (vr : Int → Int → Int) (k v : Int) : Prop := ∃ u, v < u ∧ ¬ vr k u = 0
/-- the least version that is kept -/
def vtLk (la : Int) (pn se st : Int → Int) (c : Int) (m : Int) : Prop := (m = la ∨ (∃ t, (0 ≤ t ∧ t < c) ∧ st t < 3 ∧ se t = m) ∨ ∃ k, (0 ≤ k ∧ k < 64) ∧ 0 < pn k ∧ k = m) ∧ m ≤ la ∧ (∀ t, 0 ≤ t → t < c → st t < 3 → m ≤ se t) ∧ ∀ k, 0 ≤ k → k < 64 → 0 < pn k → m ≤ k
theorem vtLk_u {la : Int} {pn se st : Int → Int} {c m m' : Int} (h : vtLk la pn se st c m) (h' : vtLk la pn se st c m') : m = m' := by
  obtain ⟨a, b1, b2, b3⟩ := h
  obtain ⟨a', b1', b2', b3'⟩ := h'
  have le : m ≤ m' := by
    rcases a' with e | ⟨t, ht, hs, e⟩ | ⟨k, hk, hs, e⟩
    · omega
    · have := b2 t ht.1 ht.2 hs; omega
    · have := b3 k hk.1 hk.2 hs; omega
  have ge : m' ≤ m := by
    rcases a with e | ⟨t, ht, hs, e⟩ | ⟨k, hk, hs, e⟩
    · omega
    · have := b2' t ht.1 ht.2 hs; omega
    · have := b3' k hk.1 hk.2 hs; omega
  omega
section
variable {rt rv re pn se st : Int → Int} {n la c k v : Int} {vr : Int → Int → Int}
theorem T48_aboveB {P Q : Prop} (hR : vtR rt rv re n vr) (hn : 0 ≤ n ∧ n ≤ 13000) (h1 : vtAb vr k v → Q) (h0 : ¬ vtAb vr k v → P) : wpX48_hasAbove (fun r => (r = 0 → P) ∧ (¬ r = 0 → Q)) rt rv n k v := by
  unfold wpX48_hasAbove
  refine zl1 (fun m i => wX48_hasAbove_2 _ _ k v rt rv n m i) (fun i => 0 ≤ i ∧ ∀ j, 0 ≤ j → j < i → rt j = k → rv j ≤ v) n ?_ ⟨by decide, fun j a b => by omega⟩ hn.1
  rintro m i ⟨i0, hi⟩ hN ih
  rw [wX48_hasAbove_2]
  refine ⟨fun z => ⟨fun _ => h0 ?_, fun q => absurd rfl q⟩, fun z => ⟨by omega, fun e => ⟨fun e2 => ⟨by omega, fun _ e3 => ?_⟩, fun e2 => ⟨fun q => absurd q (by decide), fun _ => h1 ⟨rv i, by omega, ?_⟩⟩⟩, fun e => ⟨by omega, fun _ e3 => ?_⟩⟩⟩
  · rintro ⟨u, hu, hv⟩
    obtain ⟨j, hj, ej, ev⟩ := hR.2.1 k u hv
    have := hi j hj.1 (by omega) ej
    omega
  · rw [e3]
    refine ih (by omega) ⟨by omega, fun j a b ej => ?_⟩
    by_cases h : j = i
    · subst h; exact e2
    · exact hi j a (by omega) ej
  · rw [← e, (hR.1 i i0 (by omega)).2]
    split <;> decide
  · rw [e3]
    refine ih (by omega) ⟨by omega, fun j a b ej => ?_⟩
    by_cases h : j = i
    · subst h; exact absurd ej e
    · exact hi j a (by omega) ej
theorem T48_rowOf {post : Int → Prop} (hR : vtR rt rv re n vr) (hn : 0 ≤ n ∧ n ≤ 13000) (h0 : (∀ u, u ≤ v → vr k u = 0) → post (-1)) (h1 : ∀ i, 0 ≤ i → i < n → rt i = k → rv i ≤ v → (∀ u, rv i < u → u ≤ v → vr k u = 0) → post i) : wpX48_rowOf post rt rv n k v := by
  unfold wpX48_rowOf
  refine wl2 (fun m b i => wX48_rowOf_5 _ k v rt rv n m b i) (fun b i => (0 ≤ i ∧ i ≤ n) ∧ ((b = -1 ∧ ∀ j, 0 ≤ j → j < i → rt j = k → v < rv j) ∨ ((0 ≤ b ∧ b < i) ∧ rt b = k ∧ rv b ≤ v ∧ ∀ j, 0 ≤ j → j < i → rt j = k → rv j ≤ v → rv j ≤ rv b))) (fun b i => (n - i).toNat) ?_ (-1) 0 ⟨by omega, Or.inl ⟨rfl, fun j a b => by omega⟩⟩
  rintro b i ⟨hi, hb⟩ m ih
  rw [wX48_rowOf_5]
  have no : ¬ (rt i = k ∧ rv i ≤ v ∧ (b < 0 ∨ rv b < rv i)) → i < n → (zR (i + 1) ∧ ∀ x : Int, x = i + 1 → wX48_rowOf_5 (fun x => post x) k v rt rv n m b x) := fun w hlt => by
    refine ⟨by omega, fun _ e => ?_⟩
    rw [e]
    refine ih _ _ ⟨by omega, ?_⟩ (by omega)
    rcases hb with ⟨e1, hb⟩ | ⟨b1, b2, b3, hb⟩
    · refine Or.inl ⟨e1, fun j a b ej => ?_⟩
      by_cases h : j = i
      · subst h
        by_cases h2 : rv j ≤ v
        · exact absurd ⟨ej, h2, Or.inl (by omega)⟩ w
        · omega
      · exact hb j a (by omega) ej
    · refine Or.inr ⟨by omega, b2, b3, fun j a b' ej ev => ?_⟩
      by_cases h : j = i
      · subst h
        by_cases h2 : rv b < rv j
        · exact absurd ⟨ej, ev, Or.inr h2⟩ w
        · omega
      · exact hb j a (by omega) ej ev
  have yes : (rt i = k ∧ rv i ≤ v ∧ (b < 0 ∨ rv b < rv i)) → i < n → ∀ b2 : Int, b2 = i → (zR (i + 1) ∧ ∀ x : Int, x = i + 1 → wX48_rowOf_5 (fun x => post x) k v rt rv n m b2 x) := fun w hlt b2 e2 => by
    refine ⟨by omega, fun _ e => ?_⟩
    rw [e, e2]
    refine ih _ _ ⟨by omega, Or.inr ⟨by omega, w.1, w.2.1, fun j a b' ej ev => ?_⟩⟩ (by omega)
    by_cases h : j = i
    · subst h; omega
    · rcases hb with ⟨e1, hb⟩ | ⟨b1, b2, b3, hb⟩
      · have := hb j a (by omega) ej; omega
      · have := hb j a (by omega) ej ev; omega
  have bb : ¬ b < 0 → 0 ≤ b ∧ b < 13000 := fun w => by
    rcases hb with ⟨e1, -⟩ | ⟨b1, -⟩ <;> omega
  refine ⟨fun z => ?_, fun z => ⟨by omega, fun e => ⟨fun e2 => no (fun w => by have := w.2.1; omega) (by omega), fun e2 => ⟨fun e3 => yes ⟨e, by omega, Or.inl e3⟩ (by omega) i rfl, fun e3 => ⟨bb e3, fun e4 => no (fun w => by have := w.2.2; omega) (by omega), fun e4 => yes ⟨e, by omega, Or.inr (by omega)⟩ (by omega) i rfl⟩⟩⟩, fun e => no (fun w => e w.1) (by omega)⟩⟩
  · have en : i = n := by omega
    subst en
    rcases hb with ⟨e1, hb⟩ | ⟨b1, b2, b3, hb⟩
    · subst e1
      refine h0 (fun u hu => ?_)
      by_cases h : vr k u = 0
      · exact h
      · obtain ⟨j, hj, ej, ev⟩ := hR.2.1 k u h
        have := hb j hj.1 hj.2 ej
        omega
    · refine h1 b b1.1 b1.2 b2 b3 (fun u hu hv => ?_)
      by_cases h : vr k u = 0
      · exact h
      · obtain ⟨j, hj, ej, ev⟩ := hR.2.1 k u h
        have := hb j hj.1 hj.2 ej (by omega)
        omega
theorem T48_thereB {P Q : Prop} (hR : vtR rt rv re n vr) (hn : 0 ≤ n ∧ n ≤ 13000) (h1 : vtTh vr k v → Q) (h0 : ¬ vtTh vr k v → P) : wpX48_isThere (fun r => (r = 0 → P) ∧ (¬ r = 0 → Q)) rt rv re n k v := by
  unfold wpX48_isThere
  refine T48_rowOf hR hn (fun w => ⟨fun _ => ⟨fun _ => h0 ?_, fun q => absurd rfl q⟩, fun q => absurd (by decide) q⟩) (fun i i0 i1 ek ev w => ⟨fun q => by omega, fun _ => ⟨by omega, fun e => ⟨fun _ => h0 ?_, fun q => absurd rfl q⟩, fun e => ⟨fun q => absurd q (by decide), fun _ => h1 ⟨rv i, ev, ?_, w⟩⟩⟩⟩)
  · rintro ⟨u, hu, e2, -⟩
    have := w u hu; omega
  · rintro ⟨u, hu, e2, w2⟩
    have R := (hR.1 i i0 i1).2
    rw [ek, if_pos e] at R
    by_cases h : u = rv i
    · subst h; omega
    · by_cases h2 : u < rv i
      · have := w2 (rv i) h2 ev; omega
      · have := w u (by omega) hu; omega
  · have R := (hR.1 i i0 i1).2
    rw [ek, if_neg e] at R
    exact R
theorem T48_fails {post : Int → Int → Prop} {x y : Int} (h1 : x = 0 → post 1 1) (h2 : ¬ x = 0 → y = 0 → post 1 2) (h0 : ¬ x = 0 → ¬ y = 0 → post 0 0) : wpX48_fails post x y := by
  unfold wpX48_fails
  exact ⟨fun e => ⟨fun q => absurd q (by decide), fun _ => h1 e⟩, fun e => ⟨fun e2 => ⟨fun q => absurd q (by decide), fun _ => h2 e e2⟩, fun e2 => ⟨fun _ => h0 e e2, fun q => absurd rfl q⟩⟩⟩
theorem T48_isTr {post : Int → Prop} {t : Int} (h1 : 0 ≤ t ∧ t < c → post 1) (h0 : ¬ (0 ≤ t ∧ t < c) → post 0) : wpX48_isTransaction post c t := by
  unfold wpX48_isTransaction
  exact ⟨fun e => h0 (by omega), fun e => ⟨fun e2 => h0 (by omega), fun e2 => h1 (by omega)⟩⟩
theorem T48_isTp {post : Int → Prop} {t : Int} (h1 : 0 ≤ t ∧ t < 200 → post 1) (h0 : ¬ (0 ≤ t ∧ t < 200) → post 0) : wpX48_isTriple post t := by
  unfold wpX48_isTriple
  exact ⟨fun e => h0 (by omega), fun e => ⟨fun e2 => h0 (by omega), fun e2 => h1 (by omega)⟩⟩
theorem T48_least {post : Int → Prop} (hc : 0 ≤ c ∧ c ≤ 60) (hp : ∀ m, vtLk la pn se st c m → post m) : wpX48_leastKept post la pn se st c := by
  unfold wpX48_leastKept
  refine wl2 (fun m x t => wX48_leastKept_7 _ se st c m x t) (fun x t => (0 ≤ t ∧ t ≤ c) ∧ (x = la ∨ ∃ t', (0 ≤ t' ∧ t' < t) ∧ st t' < 3 ∧ se t' = x) ∧ x ≤ la ∧ ∀ t', 0 ≤ t' → t' < t → st t' < 3 → x ≤ se t') (fun x t => (c - t).toNat) ?_ la 0 ⟨by omega, Or.inl rfl, Int.le_refl _, fun _ _ _ => by omega⟩
  rintro x t ⟨ht, hx, hl, hm⟩ m ih
  rw [wX48_leastKept_7]
  refine ⟨fun z => ?_, fun z => ⟨by omega, fun e => ⟨fun _ => ⟨by omega, fun _ e1 => ?_⟩, fun q => absurd rfl q⟩, fun e => ⟨fun q => absurd q (by decide), fun _ => ⟨by omega, fun e2 => ⟨by omega, fun _ e1 => ?_⟩, fun e2 x2 ex => ⟨by omega, fun _ e1 => ?_⟩⟩⟩⟩⟩
  · have et : t = c := by omega
    subst et
    refine wl2 (fun m x k => wX48_leastKept_52 _ pn m x k) (fun x k => (0 ≤ k ∧ k ≤ 64) ∧ (x = la ∨ (∃ t', (0 ≤ t' ∧ t' < t) ∧ st t' < 3 ∧ se t' = x) ∨ ∃ k', (0 ≤ k' ∧ k' < k) ∧ 0 < pn k' ∧ k' = x) ∧ x ≤ la ∧ (∀ t', 0 ≤ t' → t' < t → st t' < 3 → x ≤ se t') ∧ ∀ k', 0 ≤ k' → k' < k → 0 < pn k' → x ≤ k') (fun x k => (64 - k).toNat) ?_ x 0 ⟨by omega, hx.elim Or.inl (fun w => Or.inr (Or.inl w)), hl, hm, fun _ _ _ => by omega⟩
    clear hx hl hm ih z
    rintro x k ⟨hk, hx, hl, hm, hq⟩ m ih
    rw [wX48_leastKept_52]
    refine ⟨fun z => ?_, fun z => ⟨by omega, fun e => ⟨by omega, fun _ e1 => ?_⟩, fun e => ⟨fun e2 => ⟨by omega, fun _ e1 => ?_⟩, fun e2 => ⟨by omega, fun _ e1 => ?_⟩⟩⟩⟩
    · have ek : k = 64 := by omega
      subst ek
      exact hp x ⟨hx, hl, hm, hq⟩
    · rw [e1]
      refine ih _ _ ⟨by omega, ?_, hl, hm, fun k' a b w => ?_⟩ (by omega)
      · rcases hx with h | h | ⟨k', a, b, h⟩
        · exact Or.inl h
        · exact Or.inr (Or.inl h)
        · exact Or.inr (Or.inr ⟨k', by omega, b, h⟩)
      · by_cases h : k' = k
        · subst h; omega
        · exact hq k' a (by omega) w
    · rw [e1]
      refine ih _ _ ⟨by omega, ?_, hl, hm, fun k' a b w => ?_⟩ (by omega)
      · rcases hx with h | h | ⟨k', a, b, h⟩
        · exact Or.inl h
        · exact Or.inr (Or.inl h)
        · exact Or.inr (Or.inr ⟨k', by omega, b, h⟩)
      · by_cases h : k' = k
        · subst h; omega
        · exact hq k' a (by omega) w
    · rw [e1]
      refine ih _ _ ⟨by omega, Or.inr (Or.inr ⟨k, by omega, by omega, rfl⟩), by omega, fun t' a b w => by have := hm t' a b w; omega, fun k' a b w => by
        by_cases h : k' = k
        · omega
        · have := hq k' a (by omega) w; omega⟩ (by omega)
  · rw [e1]
    refine ih _ _ ⟨by omega, ?_, hl, fun t' a b w => ?_⟩ (by omega)
    · rcases hx with h | ⟨t', a, b, h⟩
      · exact Or.inl h
      · exact Or.inr ⟨t', by omega, b, h⟩
    · by_cases h : t' = t
      · subst h; omega
      · exact hm t' a (by omega) w
  · rw [e1]
    refine ih _ _ ⟨by omega, ?_, hl, fun t' a b w => ?_⟩ (by omega)
    · rcases hx with h | ⟨t', a, b, h⟩
      · exact Or.inl h
      · exact Or.inr ⟨t', by omega, b, h⟩
    · by_cases h : t' = t
      · subst h; omega
      · exact hm t' a (by omega) w
  · rw [e1, ex]
    refine ih _ _ ⟨by omega, Or.inr ⟨t, by omega, by omega, rfl⟩, by omega, fun t' a b w => ?_⟩ (by omega)
    by_cases h : t' = t
    · subst h; omega
    · have := hm t' a (by omega) w; omega
/-- a version that can be told -/
def vtTe (la : Int) (pn se st : Int → Int) (c v : Int) : Prop := (∃ m, vtLk la pn se st c m ∧ m ≤ v) ∧ v ≤ la
theorem T48_isTe {post : Int → Prop} (hc : 0 ≤ c ∧ c ≤ 60) (h1 : vtTe la pn se st c v → post 1) (h0 : ¬ vtTe la pn se st c v → post 0) : wpX48_isTellable post la pn se st c v := by
  unfold wpX48_isTellable
  refine T48_least hc (fun m hm => ⟨fun e => h0 ?_, fun e => ⟨fun e2 => h0 (fun w => by have := w.2; omega), fun e2 => h1 ⟨⟨m, hm, by omega⟩, by omega⟩⟩⟩)
  rintro ⟨⟨m', hm', le⟩, -⟩
  have := vtLk_u hm hm'
  omega
end

/-! VersionTrans, the reference (X48): what is asked, pins, begin, look, read -/
section
variable {rt rv re pn se st wr ws wf no : Int → Int} {n la c k v t : Int} {vr : Int → Int → Int}
theorem T48_told {post : Int → Int → Prop} (hR : vtR rt rv re n vr) (hn : 0 ≤ n ∧ n ≤ 13000) (hc : 0 ≤ c ∧ c ≤ 60) (h1 : ¬ (vtTe la pn se st c v ∧ 0 ≤ k ∧ k < 200) → post 0 1) (hy : vtTe la pn se st c v ∧ 0 ≤ k ∧ k < 200 → vtTh vr k v → post 1 0) (h0 : vtTe la pn se st c v ∧ 0 ≤ k ∧ k < 200 → ¬ vtTh vr k v → post 0 0) : wpX48_told post rt rv re n la pn se st c v k := by
  unfold wpX48_told wX48_told_21
  refine T48_isTe hc (fun te => ⟨fun q => absurd q (by decide), fun _ => T48_isTp (fun tp => ⟨fun q => absurd q (by decide), fun _ => ?_⟩) (fun tp => ⟨fun _ => ?_, fun q => absurd rfl q⟩)⟩) (fun te => ⟨fun _ => ?_, fun q => absurd rfl q⟩)
  · refine T48_fails (fun q => absurd q (by decide)) (fun _ q => absurd q (by decide)) (fun _ _ => ⟨fun _ => T48_thereB hR hn (hy ⟨te, tp⟩) (h0 ⟨te, tp⟩), fun q => absurd rfl q⟩)
  · exact T48_fails (fun _ => ⟨fun q => absurd q (by decide), fun _ => h1 (fun w => tp w.2)⟩) (fun q => absurd rfl q) (fun q => absurd rfl q)
  · exact T48_fails (fun _ => ⟨fun q => absurd q (by decide), fun _ => h1 (fun w => te w.1)⟩) (fun q => absurd rfl q) (fun q => absurd rfl q)
theorem T48_pin {post : Int → (Int → Int) → Int → Prop} (hc : 0 ≤ c ∧ c ≤ 60) (hla : la < 64) (hse : ∀ t, 0 ≤ t → t < c → 0 ≤ se t) (hl0 : 0 ≤ la) (hpn : ∀ k, 0 ≤ k → k < 64 → 0 ≤ pn k ∧ pn k ≤ 100000) (h1 : ¬ vtTe la pn se st c v → post 0 pn 1) (h0 : vtTe la pn se st c v → 0 ≤ v ∧ v < 64 → post (pn v + 1) (updI pn v (pn v + 1)) 0) : wpX48_pin post la pn se st c v := by
  unfold wpX48_pin
  refine T48_isTe hc (fun te => T48_fails (fun q => absurd q (by decide)) (fun _ q => absurd q (by decide)) (fun _ _ => ⟨fun _ => ?_, fun q => absurd rfl q⟩)) (fun te => T48_fails (fun _ => ⟨fun q => absurd q (by decide), fun _ => h1 te⟩) (fun q => absurd rfl q) (fun q => absurd rfl q))
  have vb : 0 ≤ v ∧ v < 64 := by
    obtain ⟨⟨m, hm, le⟩, le2⟩ := te
    have : 0 ≤ m := by
      rcases hm.1 with e | ⟨t, ht, _, e⟩ | ⟨k, hk, _, e⟩
      · omega
      · have := hse t ht.1 ht.2; omega
      · omega
    omega
  have := hpn v vb.1 vb.2
  refine ⟨vb, by omega, fun _ e1 _ e2 => ?_⟩
  rw [e2, e1, updI_s]
  exact h0 te vb
theorem T48_unpin {post : Int → (Int → Int) → Int → Prop} (hpn : ∀ k, 0 ≤ k → k < 64 → 0 ≤ pn k ∧ pn k ≤ 100000) (h1 : ¬ ((0 ≤ v ∧ v < 64) ∧ 0 < pn v) → post 0 pn 1) (h0 : (0 ≤ v ∧ v < 64) ∧ 0 < pn v → post (pn v - 1) (updI pn v (pn v - 1)) 0) : wpX48_unpin post pn v := by
  have f0 : ¬ ((0 ≤ v ∧ v < 64) ∧ 0 < pn v) → wX48_unpin_25 post v 0 pn := fun w => by
    unfold wX48_unpin_25
    exact T48_fails (fun _ => ⟨fun q => absurd q (by decide), fun _ => h1 w⟩) (fun q => absurd rfl q) (fun q => absurd rfl q)
  have f1 : (0 ≤ v ∧ v < 64) ∧ 0 < pn v → wX48_unpin_25 post v 1 pn := fun w => by
    unfold wX48_unpin_25
    refine T48_fails (fun q => absurd q (by decide)) (fun _ q => absurd q (by decide)) (fun _ _ => ⟨fun _ => ⟨w.1, ?_, fun _ e1 _ e2 => ?_⟩, fun q => absurd rfl q⟩)
    · have := hpn v w.1.1 w.1.2; omega
    · rw [e2, e1, updI_s]; exact h0 w
  unfold wpX48_unpin
  exact ⟨fun e => f0 (by omega), fun e => ⟨fun e2 => f0 (by omega), fun e2 => ⟨by omega, fun e3 => f0 (by omega), fun e3 => f1 (by omega)⟩⟩⟩
theorem T48_start {post : Int → (Int → Int) → (Int → Int) → (Int → Int) → (Int → Int) → Int → Prop} {x : Int} (hc : 0 ≤ c ∧ c < 60) (hx : x = 0 ∨ x = 1) (hp : post c (updI wr c x) (updI se c v) (updI st c 0) (updI wf c (-1)) (c + 1)) : wpX48_start post wr se st wf c x v := by
  unfold wpX48_start
  refine ⟨hc, hx, fun _ e1 _ e2 _ e3 _ e4 => ⟨by omega, fun _ e5 => ⟨by omega, ?_⟩⟩⟩
  rw [e1, e2, e3, e4, e5, show c + 1 - 1 = c by omega]
  exact hp
theorem T48_begin {post : Int → (Int → Int) → (Int → Int) → (Int → Int) → (Int → Int) → Int → Int → Prop} (hc : 0 ≤ c ∧ c ≤ 60) (h1 : c = 60 → post 0 wr se st wf c 1) (h0 : c < 60 → post c (updI wr c 1) (updI se c la) (updI st c 0) (updI wf c (-1)) (c + 1) 0) : wpX48_begin post la wr se st wf c := by
  unfold wpX48_begin
  exact ⟨fun e => ⟨fun q => absurd q (by decide), fun _ => h1 (by omega)⟩, fun e => ⟨fun _ => T48_start ⟨hc.1, by omega⟩ (Or.inr rfl) (h0 (by omega)), fun q => absurd rfl q⟩⟩
theorem T48_look {post : Int → (Int → Int) → (Int → Int) → (Int → Int) → (Int → Int) → Int → Int → Prop} (hc : 0 ≤ c ∧ c ≤ 60) (h1 : ¬ vtTe la pn se st c v → post 0 wr se st wf c 1) (h2 : vtTe la pn se st c v → c = 60 → post 0 wr se st wf c 2) (h0 : vtTe la pn se st c v → c < 60 → post c (updI wr c 0) (updI se c v) (updI st c 0) (updI wf c (-1)) (c + 1) 0) : wpX48_look post la pn wr se st wf c v := by
  unfold wpX48_look
  refine T48_isTe hc (fun te => ⟨fun e => T48_fails (fun q => absurd q (by decide)) (fun _ _ => ⟨fun q => absurd q (by decide), fun _ => h2 te (by omega)⟩) (fun _ q => absurd rfl q), fun e => T48_fails (fun q => absurd q (by decide)) (fun _ q => absurd q (by decide)) (fun _ _ => ⟨fun _ => T48_start ⟨hc.1, by omega⟩ (Or.inl rfl) (h0 te (by omega)), fun q => absurd rfl q⟩)⟩) (fun te => ⟨fun e => T48_fails (fun _ => ⟨fun q => absurd q (by decide), fun _ => h1 te⟩) (fun q => absurd rfl q) (fun q => absurd rfl q), fun e => T48_fails (fun _ => ⟨fun q => absurd q (by decide), fun _ => h1 te⟩) (fun q => absurd rfl q) (fun q => absurd rfl q)⟩)
theorem T48_state {post : Int → Int → Prop} (hc : 0 ≤ c ∧ c ≤ 60) (h1 : ¬ (0 ≤ t ∧ t < c) → post 0 1) (h0 : 0 ≤ t ∧ t < c → post (st t) 0) : wpX48_state post st c t := by
  unfold wpX48_state
  exact T48_isTr (fun w => T48_fails (fun q => absurd q (by decide)) (fun _ q => absurd q (by decide)) (fun _ _ => ⟨fun _ => ⟨by omega, h0 w⟩, fun q => absurd rfl q⟩)) (fun w => T48_fails (fun _ => ⟨fun q => absurd q (by decide), fun _ => h1 w⟩) (fun q => absurd rfl q) (fun q => absurd rfl q))
theorem T48_waits {post : Int → Int → Prop} (hc : 0 ≤ c ∧ c ≤ 60) (h1 : ¬ (0 ≤ t ∧ t < c) → post 0 1) (h0 : 0 ≤ t ∧ t < c → post (if st t = 1 then wf t else -1) 0) : wpX48_waits post st wf c t := by
  unfold wpX48_waits
  refine T48_isTr (fun w => T48_fails (fun q => absurd q (by decide)) (fun _ q => absurd q (by decide)) (fun _ _ => ⟨fun _ => ⟨by omega, fun e => ?_, fun e => ?_⟩, fun q => absurd rfl q⟩)) (fun w => T48_fails (fun _ => ⟨fun q => absurd q (by decide), fun _ => h1 w⟩) (fun q => absurd rfl q) (fun q => absurd rfl q))
  · have := h0 w; rw [if_pos e] at this; exact this
  · have := h0 w; rw [if_neg e] at this; exact this
/-- whether a transaction sees a triple: what it wrote itself comes first -/
def vtSe (vr : Int → Int → Int) (se ws : Int → Int) (t k : Int) : Prop := ws (200 * t + k) = 2 ∨ (ws (200 * t + k) = 0 ∧ vtTh vr k (se t))
theorem T48_read {post : Int → Int → Prop} (hR : vtR rt rv re n vr) (hn : 0 ≤ n ∧ n ≤ 13000) (hc : 0 ≤ c ∧ c ≤ 60) (hw : ∀ x, 0 ≤ x → x < 12000 → 0 ≤ ws x ∧ ws x ≤ 2) (h1 : ¬ ((0 ≤ t ∧ t < c) ∧ 0 ≤ k ∧ k < 200) → post 0 1) (h2 : (0 ≤ t ∧ t < c) ∧ 0 ≤ k ∧ k < 200 → ¬ st t < 3 → post 0 2) (hy : (0 ≤ t ∧ t < c) ∧ 0 ≤ k ∧ k < 200 → st t < 3 → vtSe vr se ws t k → post 1 0) (h0 : (0 ≤ t ∧ t < c) ∧ 0 ≤ k ∧ k < 200 → st t < 3 → ¬ vtSe vr se ws t k → post 0 0) : wpX48_read post rt rv re n se st ws c t k := by
  have bad : ¬ ((0 ≤ t ∧ t < c) ∧ 0 ≤ k ∧ k < 200) → wX48_read_20 post t k 0 rt rv re n se st ws := fun w => by
    unfold wX48_read_20 wX48_read_40
    exact ⟨fun _ => T48_fails (fun _ => ⟨fun q => absurd q (by decide), fun _ => h1 w⟩) (fun q => absurd rfl q) (fun q => absurd rfl q), fun q => absurd rfl q⟩
  unfold wpX48_read
  refine T48_isTr (fun ht => ⟨fun q => absurd q (by decide), fun _ => T48_isTp (fun tp => ⟨fun q => absurd q (by decide), fun _ => ?_⟩) (fun tp => ⟨fun _ => bad (fun w => tp w.2), fun q => absurd rfl q⟩)⟩) (fun ht => ⟨fun _ => bad (fun w => ht w.1), fun q => absurd rfl q⟩)
  have w : (0 ≤ t ∧ t < c) ∧ 0 ≤ k ∧ k < 200 := ⟨ht, tp⟩
  unfold wX48_read_20 wX48_read_40 wpX48_isLive
  refine ⟨fun q => absurd q (by decide), fun _ => ⟨by omega, fun e => ⟨fun _ => T48_fails (fun q => absurd q (by decide)) (fun _ _ => ⟨fun q => absurd q (by decide), fun _ => h2 w (by omega)⟩) (fun _ q => absurd rfl q), fun q => absurd rfl q⟩, fun e => ⟨fun q => absurd q (by decide), fun _ => T48_fails (fun q => absurd q (by decide)) (fun _ q => absurd q (by decide)) (fun _ _ => ⟨fun _ => ⟨by omega, fun x4 e4 => ?_⟩, fun q => absurd rfl q⟩)⟩⟩⟩
  have wb := hw (200 * t + k) (by omega) (by omega)
  refine ⟨fun e5 => ⟨by omega, ?_⟩, fun e5 => ⟨fun e6 => hy w (by omega) (Or.inl (by omega)), fun e6 => h0 w (by omega) (fun y => ?_)⟩⟩
  · have z0 : ws (200 * t + k) = 0 := by omega
    unfold wpX48_isThere
    refine T48_rowOf hR hn (fun u => ⟨fun _ => ⟨Or.inl rfl, h0 w (by omega) (fun y => ?_)⟩, fun q => absurd (by decide) q⟩) (fun i i0 i1 ek ev u => ⟨fun q => by omega, fun _ => ⟨by omega, fun e => ⟨Or.inl rfl, h0 w (by omega) (fun y => ?_)⟩, fun e => ⟨Or.inr rfl, hy w (by omega) (Or.inr ⟨z0, rv i, ev, ?_, u⟩)⟩⟩⟩)
    · rcases y with y | ⟨_, x, hx, e2, _⟩
      · omega
      · have := u x hx; omega
    · rcases y with y | ⟨_, x, hx, e2, w2⟩
      · omega
      · have R := (hR.1 i i0 i1).2
        rw [ek, if_pos e] at R
        by_cases h : x = rv i
        · subst h; omega
        · by_cases h3 : x < rv i
          · have := w2 (rv i) h3 ev; omega
          · have := u x (by omega) hx; omega
    · have R := (hR.1 i i0 i1).2
      rw [ek, if_neg e] at R
      exact R
  · rcases y with y | ⟨y, _⟩ <;> omega
end

/-! VersionTrans, the reference (X48): note, ring, conflicts; how many rows there are -/
theorem vtNo : ∀ x : Nat, x < 16 → ∀ g : Nat, g < 4 → (0 ≤ zor (x : Int) (2 ^ g) ∧ zor (x : Int) (2 ^ g) < 16) ∧ ∀ h : Nat, h < 4 → zor (x : Int) (2 ^ g) / 2 ^ h % 2 = if h = g then 1 else (x : Int) / 2 ^ h % 2 := by decide +kernel
/-- which graphs are noted -/
def vtNt (no : Int → Int) (c : Int) (nt : Int → Int → Int) : Prop := ∀ t, 0 ≤ t → t < c → (0 ≤ no t ∧ no t < 16) ∧ ∀ g, 0 ≤ g → g < 4 → no t / 2 ^ g.toNat % 2 = nt t g
section
variable {st wr no fl rf rg : Int → Int} {c t g : Int} {nt : Int → Int → Int}
theorem T48_note {post : Int → (Int → Int) → Int → Prop} {N : Int} (hc : 0 ≤ c ∧ c ≤ 60) (hcN : c ≤ N) (hN : vtNt no N nt) (h1 : ¬ ((0 ≤ t ∧ t < c) ∧ 0 ≤ g ∧ g < 4) → post 0 no 1) (h2 : (0 ≤ t ∧ t < c) ∧ 0 ≤ g ∧ g < 4 → ¬ (st t = 0 ∧ ¬ wr t = 0) → post 0 no 2) (h0 : (0 ≤ t ∧ t < c) ∧ 0 ≤ g ∧ g < 4 → (st t = 0 ∧ ¬ wr t = 0) → ∀ no', vtNt no' N (updI nt t (updI (nt t) g 1)) → post (updI (nt t) g 1 0 + updI (nt t) g 1 1 + updI (nt t) g 1 2 + updI (nt t) g 1 3) no' 0) : wpX48_note post wr st no c t g := by
  have bad : ¬ ((0 ≤ t ∧ t < c) ∧ 0 ≤ g ∧ g < 4) → wX48_note_22 post t g 0 wr st no := fun w => by
    unfold wX48_note_22 wX48_note_42
    exact ⟨fun _ => T48_fails (fun _ => ⟨fun q => absurd q (by decide), fun _ => h1 w⟩) (fun q => absurd rfl q) (fun q => absurd rfl q), fun q => absurd rfl q⟩
  unfold wpX48_note
  refine T48_isTr (fun ht => ⟨fun q => absurd q (by decide), fun _ => ⟨fun e => bad (by omega), fun e => ⟨fun e2 => bad (by omega), fun e2 => ?_⟩⟩⟩) (fun ht => ⟨fun _ => bad (fun w => ht w.1), fun q => absurd rfl q⟩)
  have w : (0 ≤ t ∧ t < c) ∧ 0 ≤ g ∧ g < 4 := ⟨ht, by omega⟩
  have b42 : ¬ (st t = 0 ∧ ¬ wr t = 0) → wX48_note_42 post t g 1 0 no := fun u => by
    unfold wX48_note_42
    exact T48_fails (fun q => absurd q (by decide)) (fun _ _ => ⟨fun q => absurd q (by decide), fun _ => h2 w u⟩) (fun _ q => absurd rfl q)
  unfold wX48_note_22 wpX48_canWrite
  refine ⟨fun q => absurd q (by decide), fun _ => ⟨by omega, fun e3 => ⟨fun e4 => ⟨fun _ => b42 (fun u => u.2 e4), fun q => absurd rfl q⟩, fun e4 => ⟨fun q => absurd q (by decide), fun _ => ?_⟩⟩, fun e3 => ⟨fun _ => b42 (fun u => e3 u.1), fun q => absurd rfl q⟩⟩⟩
  unfold wX48_note_42
  refine T48_fails (fun q => absurd q (by decide)) (fun _ q => absurd q (by decide)) (fun _ _ => ⟨fun _ => ⟨by omega, by omega, fun v e5 no' e6 => ?_⟩, fun q => absurd rfl q⟩)
  obtain ⟨nb, nt1⟩ := hN t ht.1 (by omega)
  have V := vtNo (no t).toNat (by omega) g.toNat (by omega)
  rw [show (((no t).toNat : Nat) : Int) = no t by omega, ← e5] at V
  have N' : vtNt no' N (updI nt t (updI (nt t) g 1)) := fun t' a b => by
    rw [e6]
    by_cases h : t' = t
    · subst h
      rw [updI_s, updI_s]
      refine ⟨V.1, fun h' a' b' => ?_⟩
      rw [V.2 h'.toNat (by omega)]
      by_cases e : h' = g
      · rw [if_pos (by omega), e, updI_s]
      · rw [if_neg (by omega), updI_n e]; exact nt1 h' a' b'
    · rw [updI_n h, updI_n h]; exact hN t' a b
  have Nt := (N' t ht.1 (by omega)).2
  rw [updI_s] at Nt
  have q0 := Nt 0 (by decide) (by decide)
  have q1 := Nt 1 (by decide) (by decide)
  have q2 := Nt 2 (by decide) (by decide)
  have q3 := Nt 3 (by decide) (by decide)
  have H := h0 w ⟨e3, e4⟩ no' N'
  rw [← q0, ← q1, ← q2, ← q3] at H
  refine ⟨5, ?_⟩
  rw [wX48_note_68]
  refine ⟨fun q => absurd q (by decide), fun _ => ⟨by omega, by decide, by omega, fun _ f1 => ⟨by decide, fun _ f2 => ?_⟩⟩⟩
  subst f2
  rw [wX48_note_68]
  refine ⟨fun q => absurd q (by decide), fun _ => ⟨by omega, by decide, by omega, fun _ f3 => ⟨by decide, fun _ f4 => ?_⟩⟩⟩
  subst f4
  rw [wX48_note_68]
  refine ⟨fun q => absurd q (by decide), fun _ => ⟨by omega, by decide, by omega, fun _ f5 => ⟨by decide, fun _ f6 => ?_⟩⟩⟩
  subst f6
  rw [wX48_note_68]
  refine ⟨fun q => absurd q (by decide), fun _ => ⟨by omega, by decide, by omega, fun _ f7 => ⟨by decide, fun _ f8 => ?_⟩⟩⟩
  subst f8
  rw [wX48_note_68]
  refine ⟨fun _ => ?_, fun q => absurd (by decide) q⟩
  rw [f7, f5, f3, f1, Int.zero_add]
  exact H
theorem T48_ring {post : Int → Int → Prop} {s i : Int} (hs : s ≤ 60) (hp : post (if 0 ≤ i ∧ i < s then rg i else -1) 0) : wpX48_ring post rg s i := by
  unfold wpX48_ring
  refine ⟨fun e => ?_, fun e => ⟨fun e2 => ?_, fun e2 => ⟨by omega, ?_⟩⟩⟩
  · rw [if_neg (by omega)] at hp; exact hp
  · rw [if_neg (by omega)] at hp; exact hp
  · rw [if_pos (by omega)] at hp; exact hp
/-- a number of a conflict -/
def vtCf (k i : Int) : Prop := (k = 0 ∧ 0 ≤ i ∧ i < 200) ∨ (k = 1 ∧ 0 ≤ i ∧ i < 4)
theorem T48_conflicts {post : Int → Int → Prop} {k i : Int} (h1 : ¬ vtCf k i → post 0 1) (h0 : vtCf k i → post (if k = 0 then fl i else rf i) 0) : wpX48_conflicts post fl rf k i := by
  have f0 : ¬ vtCf k i → wX48_conflicts_34 post k i 0 fl rf := fun w => by
    unfold wX48_conflicts_34
    exact T48_fails (fun _ => ⟨fun q => absurd q (by decide), fun _ => h1 w⟩) (fun q => absurd rfl q) (fun q => absurd rfl q)
  have f1 : vtCf k i → wX48_conflicts_34 post k i 1 fl rf := fun w => by
    have H := h0 w
    unfold vtCf at w
    unfold wX48_conflicts_34
    refine T48_fails (fun q => absurd q (by decide)) (fun _ q => absurd q (by decide)) (fun _ _ => ⟨fun _ => ⟨fun e => ⟨by omega, ?_⟩, fun e => ⟨by omega, ?_⟩⟩, fun q => absurd rfl q⟩)
    · rw [if_pos e] at H; exact H
    · rw [if_neg e] at H; exact H
  unfold vtCf at f0 f1
  have ten : k = 0 ∨ k = 1 → wX48_conflicts_10 post k i fl rf := fun hk => by
    unfold wX48_conflicts_10
    exact ⟨fun e => f0 (by omega), fun e => ⟨fun e1 => ⟨fun e2 => f0 (by omega), fun e2 => f1 (by omega)⟩, fun e1 => ⟨fun e2 => f0 (by omega), fun e2 => f1 (by omega)⟩⟩⟩
  unfold wpX48_conflicts
  exact ⟨fun e => ten (Or.inl e), fun e => ⟨fun e1 => ten (Or.inr e1), fun e1 => f0 (by omega)⟩⟩
end

/-! VersionTrans, the reference (X48): how many rows there are; free -/
theorem cntI_u {p q : Int → Prop} {x0 : Int} (h0 : 0 ≤ x0) (hp : ¬ p x0) (hq : q x0) (he : ∀ x, x ≠ x0 → (p x ↔ q x)) : ∀ N : Nat, cntI q N = cntI p N + if x0 < N then 1 else 0
  | 0 => by rw [if_neg (by omega)]; rfl
  | N + 1 => by
    have ih := cntI_u h0 hp hq he N
    show cntI q N + pif (q N) 1 0 = cntI p N + pif (p N) 1 0 + _
    by_cases h : (N : Int) = x0
    · rw [if_pos (by omega)]
      rw [if_neg (by omega)] at ih
      rw [h, pif_t hq, pif_f hp, ih]
    · have e : (pif (q N) 1 0 : Int) = pif (p N) 1 0 := by
        by_cases w : p N
        · rw [pif_t w, pif_t ((he N h).mp w)]
        · rw [pif_f w, pif_f (fun y => w ((he N h).mpr y))]
      rw [ih, e]
      by_cases h2 : x0 < (N : Int)
      · rw [if_pos h2, if_pos (by omega)]; omega
      · rw [if_neg h2, if_neg (by omega)]; omega
/-- how many rows there are -/
noncomputable def vtN (N : Nat) (vr : Int → Int → Int) : Int := cntI (fun x => ¬ vr (x / 64) (x % 64) = 0) N
theorem vtN_b {N : Nat} {vr : Int → Int → Int} : 0 ≤ vtN N vr ∧ vtN N vr ≤ N := cntI_b _ _
theorem vtN_a {N : Nat} {vr vr' : Int → Int → Int} {k v : Int} (hk : 0 ≤ k) (hv : 0 ≤ v ∧ v < 64) (hN : 64 * k + 64 ≤ N) (h0 : vr k v = 0) (h1 : ¬ vr' k v = 0) (he : ∀ k' v', ¬ (k' = k ∧ v' = v) → vr' k' v' = vr k' v') : vtN N vr' = vtN N vr + 1 := by
  have := cntI_u (p := fun x => ¬ vr (x / 64) (x % 64) = 0) (q := fun x => ¬ vr' (x / 64) (x % 64) = 0) (x0 := 64 * k + v) (by omega)
    (by show ¬ ¬ vr ((64 * k + v) / 64) ((64 * k + v) % 64) = 0; rw [show (64 * k + v) / 64 = k by omega, show (64 * k + v) % 64 = v by omega]; exact fun w => w h0)
    (by show ¬ vr' ((64 * k + v) / 64) ((64 * k + v) % 64) = 0; rw [show (64 * k + v) / 64 = k by omega, show (64 * k + v) % 64 = v by omega]; exact h1)
    (fun x hx => by show ¬ vr (x / 64) (x % 64) = 0 ↔ ¬ vr' (x / 64) (x % 64) = 0; rw [he _ _ (by omega)]) N
  rw [if_pos (by omega)] at this
  exact this
/-- what goes when versions below m are freed -/
def vtGo (vr : Int → Int → Int) (m k v : Int) : Prop := (∃ u, v < u ∧ u ≤ m ∧ ¬ vr k u = 0) ∨ (v ≤ m ∧ vr k v = 1)
noncomputable def vtF (vr : Int → Int → Int) (m : Int) : Int → Int → Int := fun k v => pif (vtGo vr m k v) 0 (vr k v)
def vtW (rt rv re : Int → Int) (n : Int) (vr : Int → Int → Int) : Prop := vtR rt rv re n vr ∧ (∀ i, 0 ≤ i → i < n → (0 ≤ rv i ∧ rv i < 64) ∧ (re i = 0 ∨ re i = 1)) ∧ n = vtN 12800 vr
theorem vtN_0 {vr : Int → Int → Int} (h : ∀ k v, vr k v = 0) : ∀ N : Nat, vtN N vr = 0
  | 0 => rfl
  | N + 1 => by
    have ih := vtN_0 h N
    have e : vtN (N + 1) vr = vtN N vr + pif (¬ vr ((N : Int) / 64) ((N : Int) % 64) = 0) 1 0 := rfl
    rw [e, ih, pif_f (fun w => w (h _ _))]; rfl
theorem vtW_add {a d e : Int → Int} {x k0 v0 e0 : Int} {V V' : Int → Int → Int} (W : vtW a d e x V) (hx : 0 ≤ x) (hk : 0 ≤ k0 ∧ k0 < 200) (hv : 0 ≤ v0 ∧ v0 < 64) (he : e0 = 0 ∨ e0 = 1) (h0 : V k0 v0 = 0) (h1 : V' k0 v0 = if e0 = 0 then 1 else 2) (hs : ∀ k v, ¬ (k = k0 ∧ v = v0) → V' k v = V k v) : vtW (updI a x k0) (updI d x v0) (updI e x e0) (x + 1) V' := by
  obtain ⟨⟨r1, r2, r3⟩, b, en⟩ := W
  have nz : ¬ V' k0 v0 = 0 := by rw [h1]; split <;> decide
  have df : ∀ j, 0 ≤ j → j < x → ¬ (a j = k0 ∧ d j = v0) := fun j j0 j1 w => by
    have := (r1 j j0 j1).2
    rw [w.1, w.2, h0] at this
    by_cases c : e j = 0
    · rw [if_pos c] at this; exact absurd this (by decide)
    · rw [if_neg c] at this; exact absurd this (by decide)
  refine ⟨⟨fun j j0 j1 => ?_, fun k v w => ?_, fun j j' j0 j1 i0 i1 e1 e2 => ?_⟩, fun j j0 j1 => ?_, ?_⟩
  · by_cases h : j = x
    · rw [h, updI_s, updI_s, updI_s]; exact ⟨hk, h1⟩
    · rw [updI_n h, updI_n h, updI_n h, hs _ _ (df j j0 (by omega))]; exact r1 j j0 (by omega)
  · by_cases h : k = k0 ∧ v = v0
    · exact ⟨x, by omega, by rw [updI_s, h.1], by rw [updI_s, h.2]⟩
    · rw [hs k v h] at w
      obtain ⟨j, hj, e1, e2⟩ := r2 k v w
      exact ⟨j, by omega, by rw [updI_n (by omega)]; exact e1, by rw [updI_n (by omega)]; exact e2⟩
  · by_cases h : j = x
    · by_cases h' : j' = x
      · omega
      · rw [h, updI_s, updI_n h'] at e1 e2
        exact absurd ⟨e1.symm, e2.symm⟩ (df j' i0 (by omega))
    · by_cases h' : j' = x
      · rw [h', updI_s, updI_n h] at e1 e2
        exact absurd ⟨e1, e2⟩ (df j j0 (by omega))
      · rw [updI_n h, updI_n h'] at e1 e2
        exact r3 j j' j0 (by omega) i0 (by omega) e1 e2
  · by_cases h : j = x
    · rw [h, updI_s, updI_s]; exact ⟨hv, he⟩
    · rw [updI_n h, updI_n h]; exact b j j0 (by omega)
  · rw [vtN_a hk.1 hv (by omega) h0 nz hs, ← en]
/-- the rows before the i-th that stay -/
noncomputable def vtFi (rt rv : Int → Int) (vr : Int → Int → Int) (m i : Int) : Int → Int → Int := fun k v => pif ((∃ j, (0 ≤ j ∧ j < i) ∧ rt j = k ∧ rv j = v) ∧ ¬ vtGo vr m k v) (vr k v) 0
section
variable {rt rv re pn se st : Int → Int} {n la c k v m : Int} {vr : Int → Int → Int}
theorem vtFi_g {i : Int} (g : vtGo vr m (rt i) (rv i)) (h0 : 0 ≤ i) : vtFi rt rv vr m (i + 1) = vtFi rt rv vr m i := by
  funext k v
  unfold vtFi
  refine pif_c ⟨fun w => ?_, fun w => ?_⟩
  · obtain ⟨⟨j, hj, e1, e2⟩, ng⟩ := w
    by_cases h : j = i
    · subst h; rw [e1, e2] at g; exact absurd g ng
    · exact ⟨⟨j, by omega, e1, e2⟩, ng⟩
  · obtain ⟨⟨j, hj, e1, e2⟩, ng⟩ := w
    exact ⟨⟨j, by omega, e1, e2⟩, ng⟩
theorem vtFi_n (hR : vtR rt rv re n vr) : vtFi rt rv vr m n = vtF vr m := by
  funext k v
  unfold vtFi vtF
  by_cases g : vtGo vr m k v
  · rw [pif_t g, pif_f (fun w => w.2 g)]
  · rw [pif_f g]
    by_cases h : vr k v = 0
    · by_cases w : ((∃ j, (0 ≤ j ∧ j < n) ∧ rt j = k ∧ rv j = v) ∧ ¬ vtGo vr m k v)
      · rw [pif_t w]
      · rw [pif_f w]; exact h.symm
    · obtain ⟨j, hj, e1, e2⟩ := hR.2.1 k v h
      rw [pif_t ⟨⟨j, hj, e1, e2⟩, g⟩]
theorem T48_free {post : Int → (Int → Int) → (Int → Int) → (Int → Int) → Int → Int → (Int → Int) → Prop} {bs : Int → Int} (hW : vtW rt rv re n vr) (hc : 0 ≤ c ∧ c ≤ 60) (hp : ∀ m, vtLk la pn se st c m → ∀ rt' rv' re' bs', vtW rt' rv' re' (vtN 12800 (vtF vr m)) (vtF vr m) → post (vtN 12800 vr - vtN 12800 (vtF vr m)) rt' rv' re' (vtN 12800 (vtF vr m)) 0 bs') : wpX48_free post rt rv re n la pn se st c bs := by
  obtain ⟨hR, hv, en⟩ := id hW
  have nb := vtN_b (N := 12800) (vr := vr)
  unfold wpX48_free
  refine T48_least hc (fun m hm => ?_)
  have hp := hp m hm
  refine zl2 (fun z k b => wX48_free_14 _ m rt rv n z k b) (fun k b => 0 ≤ k ∧ ∀ k', 0 ≤ k' → k' < k → (b k' = -1 ∧ ∀ u, u ≤ m → vr k' u = 0) ∨ (b k' ≤ m ∧ ¬ vr k' (b k') = 0 ∧ ∀ u, b k' < u → u ≤ m → vr k' u = 0)) 200 ?_ ⟨by decide, fun k' a b => by omega⟩ (by decide)
  rintro z k b ⟨hk0, hb⟩ hk ih
  rw [wX48_free_14]
  refine ⟨fun e => ?_, fun e => T48_rowOf hR (by omega) (fun w => ⟨fun q => absurd q (by decide), fun _ => ⟨by omega, fun _ e1 => ⟨by omega, fun _ e2 => ?_⟩⟩⟩) (fun i i0 i1 ek ev w => ⟨fun _ => ⟨by omega, fun _ e0 => ⟨by omega, fun _ e1 => ⟨by omega, fun _ e2 => ?_⟩⟩⟩, fun q => absurd i0 q⟩)⟩
  rotate_left
  · rw [e1, e2]
    refine ih _ (by omega) ⟨by omega, fun k' a b' => ?_⟩
    by_cases h : k' = k
    · subst h; rw [updI_s]; exact Or.inl ⟨rfl, w⟩
    · rw [updI_n h]; exact hb k' a (by omega)
  · rw [e1, e2, e0]
    refine ih _ (by omega) ⟨by omega, fun k' a b' => ?_⟩
    by_cases h : k' = k
    · subst h; rw [updI_s]
      refine Or.inr ⟨ev, ?_, w⟩
      have := (hR.1 i i0 i1).2
      rw [ek] at this
      rw [this]; split <;> decide
    · rw [updI_n h]; exact hb k' a (by omega)
  have ek : k = 200 := by omega
  subst ek
  clear ih hk e
  have go : ∀ i, 0 ≤ i → i < n → (vtGo vr m (rt i) (rv i) ↔ (rv i < b (rt i) ∨ (rv i = b (rt i) ∧ re i = 0))) := fun i i0 i1 => by
    obtain ⟨rb, er⟩ := hR.1 i i0 i1
    have vi := (hv i i0 i1).1
    have nz : ¬ vr (rt i) (rv i) = 0 := by rw [er]; split <;> decide
    rcases hb (rt i) rb.1 rb.2 with ⟨e1, w⟩ | ⟨w1, w2, w3⟩
    · have gt : m < rv i := by
        by_cases h : rv i ≤ m
        · exact absurd (w _ h) nz
        · omega
      refine ⟨fun g => ?_, fun g => by omega⟩
      rcases g with ⟨u, hu, hu2, _⟩ | ⟨g, _⟩ <;> omega
    · constructor
      · rintro (⟨u, hu, hu2, hu3⟩ | ⟨g1, g2⟩)
        · by_cases h : b (rt i) < u
          · exact absurd (w3 u h hu2) hu3
          · exact Or.inl (by omega)
        · by_cases h : rv i < b (rt i)
          · exact Or.inl h
          · by_cases h2 : b (rt i) < rv i
            · exact absurd (w3 _ h2 g1) nz
            · refine Or.inr ⟨by omega, ?_⟩
              rw [er] at g2
              by_cases h3 : re i = 0
              · exact h3
              · rw [if_neg h3] at g2; exact absurd g2 (by decide)
      · rintro (g | ⟨g1, g2⟩)
        · exact Or.inl ⟨_, g, w1, w2⟩
        · refine Or.inr ⟨by omega, ?_⟩
          rw [er, if_pos g2]
  refine wl5 (fun z x i a d e => wX48_free_65 _ n b z x i a d e) (fun x i a d e => (0 ≤ x ∧ x ≤ i ∧ i ≤ n) ∧ (∀ j, i ≤ j → j < n → a j = rt j ∧ d j = rv j ∧ e j = re j) ∧ vtW a d e x (vtFi rt rv vr m i)) (fun x i a d e => (n - i).toNat) ?_ 0 0 rt rv re ⟨by omega, fun j _ _ => ⟨rfl, rfl, rfl⟩, ⟨fun j a b => by omega, fun k v w => ?_, fun j j' a b => by omega⟩, fun j a b => by omega, ?_⟩
  rotate_left
  · refine absurd ?_ w
    unfold vtFi
    exact pif_f (fun ⟨⟨j, hj, _⟩, _⟩ => by omega)
  · refine (vtN_0 (fun k v => ?_) _).symm
    unfold vtFi
    exact pif_f (fun ⟨⟨j, hj, _⟩, _⟩ => by omega)
  rintro x i a d e ⟨hx, hs, W⟩ z ih
  rw [wX48_free_65]
  refine ⟨fun q => ?_, fun q => ⟨by omega, fun x5 e5 => ?_⟩⟩
  · have ei : i = n := by omega
    subst ei
    rw [vtFi_n hR] at W
    have ex := W.2.2
    have b1 := vtN_b (N := 12800) (vr := vtF vr m)
    refine ⟨by omega, ?_⟩
    rw [ex, en]
    exact hp _ _ _ _ (by rw [← ex]; exact W)
  obtain ⟨s1, s2, s3⟩ := hs i (Int.le_refl _) (by omega)
  obtain ⟨rb, er⟩ := hR.1 i (by omega) (by omega)
  obtain ⟨vb, eb⟩ := hv i (by omega) (by omega)
  have gi := go i (by omega) (by omega)
  rw [s1] at e5
  subst e5
  rw [s2, s3]
  have yes : vtGo vr m (rt i) (rv i) → wX48_free_129 (wX48_free_65 _ n b z) x i (rt i) 1 a d e := fun g => by
    unfold wX48_free_129
    refine ⟨fun q => absurd q (by decide), fun _ => ⟨by omega, fun _ e1 => ?_⟩⟩
    rw [e1]
    exact ih _ _ _ _ _ ⟨by omega, fun j a b => hs j (by omega) b, by rw [vtFi_g g (by omega)]; exact W⟩ (by omega)
  have no : ¬ vtGo vr m (rt i) (rv i) → wX48_free_129 (wX48_free_65 _ n b z) x i (rt i) 0 a d e := fun g => by
    unfold wX48_free_129
    refine ⟨fun _ => ⟨by omega, fun _ e1 => ⟨by omega, fun _ e2 _ e3 _ e4 => ⟨by omega, fun _ e6 => ⟨by omega, fun _ e7 => ⟨by omega, fun _ e8 => ?_⟩⟩⟩⟩⟩, fun q => absurd rfl q⟩
    rw [e1, e3, e2, e6, e4, e7, e8, s2, s3]
    refine ih _ _ _ _ _ ⟨by omega, fun j a' b' => ?_, vtW_add W hx.1 rb vb eb ?_ ?_ (fun k v w => ?_)⟩ (by omega)
    · rw [updI_n (by omega), updI_n (by omega), updI_n (by omega)]; exact hs j (by omega) b'
    · unfold vtFi
      refine pif_f (fun ⟨⟨j, hj, e9, e10⟩, _⟩ => ?_)
      have := hR.2.2 j i hj.1 (by omega) (by omega) (by omega) e9 e10
      omega
    · unfold vtFi
      rw [pif_t ⟨⟨i, by omega, rfl, rfl⟩, g⟩]; exact er
    · unfold vtFi
      refine pif_c ⟨fun ⟨⟨j, hj, e9, e10⟩, ng⟩ => ⟨⟨j, ?_, e9, e10⟩, ng⟩, fun ⟨⟨j, hj, e9, e10⟩, ng⟩ => ⟨⟨j, by omega, e9, e10⟩, ng⟩⟩
      by_cases h : j = i
      · subst h; exact absurd ⟨e9.symm, e10.symm⟩ w
      · omega
  exact ⟨rb, fun e6 => yes (gi.mpr (Or.inl e6)), fun e6 => ⟨fun e7 => ⟨fun e8 => yes (gi.mpr (Or.inr ⟨e7, e8⟩)), fun e8 => no (fun w => (gi.mp w).elim e6 (fun y => e8 y.2))⟩, fun e7 => no (fun w => (gi.mp w).elim e6 (fun y => e7 y.1))⟩⟩
end

/-! lists of numbers below a bound; counting what a row takes -/
noncomputable def lsI (p : Int → Prop) : Nat → List Int
  | 0 => []
  | n + 1 => lsI p n ++ pif (p n) [(n : Int)] []
theorem lsI_t {p : Int → Prop} {n : Int} (h0 : 0 ≤ n) (h : p n) : lsI p (n + 1).toNat = lsI p n.toNat ++ [n] := by
  rw [show (n + 1).toNat = n.toNat + 1 by omega, lsI, show ((n.toNat : Nat) : Int) = n by omega, pif_t h]
theorem lsI_f {p : Int → Prop} {n : Int} (h0 : 0 ≤ n) (h : ¬ p n) : lsI p (n + 1).toNat = lsI p n.toNat := by
  rw [show (n + 1).toNat = n.toNat + 1 by omega, lsI, show ((n.toNat : Nat) : Int) = n by omega, pif_f h, List.append_nil]
theorem lsI_m {p : Int → Prop} {w : Int} : ∀ {n : Nat}, w ∈ lsI p n ↔ (0 ≤ w ∧ w < n) ∧ p w
  | 0 => by
    unfold lsI
    exact ⟨fun h => absurd h (List.not_mem_nil), fun h => by omega⟩
  | n + 1 => by
    unfold lsI
    rw [List.mem_append, lsI_m]
    by_cases hp : p n
    · rw [pif_t hp, List.mem_singleton]
      constructor
      · rintro (h | h)
        · exact ⟨by omega, h.2⟩
        · subst h; exact ⟨by omega, hp⟩
      · intro h
        by_cases e : w = n
        · exact Or.inr e
        · exact Or.inl ⟨by omega, h.2⟩
    · rw [pif_f hp]
      constructor
      · rintro (h | h)
        · exact ⟨by omega, h.2⟩
        · exact absurd h (List.not_mem_nil)
      · intro h
        by_cases e : w = n
        · subst e; exact absurd h.2 hp
        · exact Or.inl ⟨by omega, h.2⟩
theorem lsI_p {p : Int → Prop} : ∀ {n : Nat}, (lsI p n).Pairwise (fun a b => a < b)
  | 0 => List.Pairwise.nil
  | n + 1 => by
    unfold lsI
    rw [List.pairwise_append]
    refine ⟨lsI_p, ?_, fun a ha b hb => ?_⟩
    · by_cases hp : p n
      · rw [pif_t hp]; exact List.pairwise_singleton _ _
      · rw [pif_f hp]; exact List.Pairwise.nil
    · have := lsI_m.mp ha
      by_cases hp : p n
      · rw [pif_t hp, List.mem_singleton] at hb; omega
      · rw [pif_f hp] at hb; exact absurd hb (List.not_mem_nil)
theorem lsI_l {p : Int → Prop} : ∀ {n : Nat}, ((lsI p n).length : Int) = cntI p n
  | 0 => rfl
  | n + 1 => by
    unfold lsI cntI
    rw [List.length_append, ← lsI_l]
    by_cases hp : p n
    · rw [pif_t hp, pif_t hp]; rfl
    · rw [pif_f hp, pif_f hp]; rfl
/-- a row of numbers told apart takes as many -/
theorem pigI {f : Nat → Int} {c : Nat} : ∀ n : Nat, (∀ i, i < n → 0 ≤ f i ∧ f i < c) → (∀ i j, i < j → j < n → f i ≠ f j) → cntI (fun w => ∃ i, i < n ∧ f i = w) c = n
  | 0, _, _ => by
    have : ∀ m : Nat, cntI (fun w => ∃ i, i < 0 ∧ f i = w) m = 0 := by
      intro m
      induction m with
      | zero => rfl
      | succ m ih => unfold cntI; rw [ih, pif_f (fun ⟨i, h, _⟩ => absurd h (Nat.not_lt_zero i))]; rfl
    exact this c
  | n + 1, hb, hd => by
    have ih := pigI n (fun i h => hb i (by omega)) (fun i j a b => hd i j a (by omega))
    have := cntI_u (p := fun w => ∃ i, i < n ∧ f i = w) (q := fun w => ∃ i, i < n + 1 ∧ f i = w) (x0 := f n) (hb n (by omega)).1 (fun ⟨i, h, e⟩ => hd i n h (by omega) e) ⟨n, by omega, rfl⟩ (fun x hx => ⟨fun ⟨i, h, e⟩ => ⟨i, by omega, e⟩, fun ⟨i, h, e⟩ => ⟨i, by
      have : i ≠ n := fun h2 => hx (by rw [← e, h2])
      omega, e⟩⟩) c
    rw [this, ih, if_pos (hb n (by omega)).2]
    omega
theorem pig_le {f : Nat → Int} {c n : Nat} (hb : ∀ i, i < n → 0 ≤ f i ∧ f i < c) (hd : ∀ i j, i < j → j < n → f i ≠ f j) : n ≤ c := by
  have a := pigI (c := c) n hb hd
  have b := cntI_b (fun w => ∃ i, i < n ∧ f i = w) c
  omega
/-- the greatest stands last -/
theorem last_le {R : List Int} (h : R.Pairwise (fun a b => a < b)) {w : Int} (hw : w ∈ R) : w ≤ R.getD (R.length - 1) 0 := by
  obtain ⟨i, hi, e⟩ := List.mem_iff_getElem.mp hw
  have l : R.length - 1 < R.length := by omega
  rw [List.getD_eq_getElem?_getD, List.getElem?_eq_getElem l]
  show w ≤ R[R.length - 1]
  by_cases h2 : i = R.length - 1
  · subst h2; omega
  · have := (List.pairwise_iff_getElem.mp h) i (R.length - 1) hi l (by omega)
    omega
theorem last_m {R : List Int} (h : 0 < R.length) : R.getD (R.length - 1) 0 ∈ R := by
  have l : R.length - 1 < R.length := by omega
  rw [List.getD_eq_getElem?_getD, List.getElem?_eq_getElem l]
  exact List.getElem_mem l

/-! VersionTrans, the reference (X48): one ends -/
/-- w waits for t -/
def vtWa (st wf : Int → Int) (c t w : Int) : Prop := (0 ≤ w ∧ w < c) ∧ st w = 1 ∧ wf w = t
/-- those that wait for t, by their turns -/
def vtQl (st wf si : Int → Int) (c t : Int) (L : List Int) : Prop := (∀ w, w ∈ L ↔ vtWa st wf c t w) ∧ L.Pairwise (fun a b => si a < si b)
/-- the queue's row from place o on holds L -/
def vtQ (q : Int → Int) (o : Int) (L : List Int) : Prop := ∀ i : Nat, i < L.length → q (o + i) = L.getD i 0
theorem vtQ_one {q : Int → Int} {o v : Int} {L : List Int} (h : vtQ q o L) : vtQ (updI q (o + L.length) v) o (L ++ [v]) := by
  intro i hi
  rw [List.length_append, List.length_singleton] at hi
  by_cases e : i = L.length
  · subst e
    rw [updI_s]
    simp
  · rw [updI_n (by omega), h i (by omega)]
    simp [List.getD_eq_getElem?_getD, List.getElem?_append_left (show i < L.length by omega)]
/-- one holds nothing any more -/
def vtHo (ho : Int → Int) (t : Int) : Int → Int := fun k => if 0 ≤ k ∧ k < 200 ∧ ho k = t then -1 else ho k
section
variable {st wf si ho q : Int → Int} {c t o : Int}
theorem T48_e9 {K : (Int → Int) → Prop} (hp : K (vtHo ho t)) : ∃ fu, wX48_end_9 K t fu 0 ho := by
  refine zl2 (fun m k h => wX48_end_9 K t m k h) (fun k h => 0 ≤ k ∧ (∀ j, j < k → h j = vtHo ho t j) ∧ ∀ j, k ≤ j → h j = ho j) 200 ?_ ⟨by decide, fun j b => by unfold vtHo; rw [if_neg (by omega)], fun _ _ => rfl⟩ (by decide)
  rintro m k h ⟨k0, h1, h2⟩ hk ih
  rw [wX48_end_9]
  refine ⟨fun z => ?_, fun z => ⟨by omega, fun e => ?_, fun e => ⟨by omega, fun _ e1 => ?_⟩⟩⟩
  · have : h = vtHo ho t := by
      funext j
      by_cases hj : j < k
      · exact h1 j hj
      · rw [h2 j (by omega)]; unfold vtHo; rw [if_neg (by omega)]
    rw [this]; exact hp
  · intro h' e0
    refine ⟨by omega, fun _ e1 => ?_⟩
    rw [e1, e0]
    rw [h2 k (Int.le_refl _)] at e
    refine ih _ (by omega) ⟨by omega, fun j b => ?_, fun j a => by rw [updI_n (by omega)]; exact h2 j (by omega)⟩
    by_cases hj : j = k
    · subst hj; rw [updI_s]; unfold vtHo; rw [if_pos ⟨by omega, by omega, e⟩]
    · rw [updI_n hj]; exact h1 j (by omega)
  · rw [e1]
    rw [h2 k (Int.le_refl _)] at e
    refine ih _ (by omega) ⟨by omega, fun j b => ?_, fun j a => h2 j (by omega)⟩
    by_cases hj : j = k
    · subst hj; rw [h2 j (Int.le_refl _)]; unfold vtHo; rw [if_neg (fun w => e w.2.2)]
    · exact h1 j (by omega)
theorem T48_e55 {K : Int → Prop} {l : Int} (hc : 0 ≤ c ∧ c ≤ 60) (h0 : (∀ w, vtWa st wf c t w → si w ≤ l) → K (-1)) (h1 : ∀ x, vtWa st wf c t x → l < si x → (∀ w, vtWa st wf c t w → l < si w → si x ≤ si w) → K x) : ∃ fu, wX48_end_55 K t l st wf si c fu (-1) 0 := by
  refine wl2 (fun m b i => wX48_end_55 K t l st wf si c m b i) (fun b i => (0 ≤ i ∧ i ≤ c) ∧ ((b = -1 ∧ ∀ w, vtWa st wf c t w → w < i → si w ≤ l) ∨ (b < i ∧ vtWa st wf c t b ∧ l < si b ∧ ∀ w, vtWa st wf c t w → w < i → l < si w → si b ≤ si w))) (fun b i => (c - i).toNat) ?_ (-1) 0 ⟨by omega, Or.inl ⟨rfl, fun w a b => by have := a.1; omega⟩⟩
  rintro b i ⟨hi, hb⟩ m ih
  have no : ¬ (vtWa st wf c t i ∧ l < si i ∧ (b < 0 ∨ si i < si b)) → i < c → (zR (i + 1) ∧ ∀ x : Int, x = i + 1 → wX48_end_55 K t l st wf si c m b x) := fun w hlt => by
    refine ⟨by omega, fun _ e => ?_⟩
    rw [e]
    refine ih _ _ ⟨by omega, ?_⟩ (by omega)
    rcases hb with ⟨e1, hb⟩ | ⟨b1, b2, b3, hb⟩
    · refine Or.inl ⟨e1, fun w' a a2 => ?_⟩
      by_cases h : w' = i
      · subst h
        by_cases h2 : l < si w'
        · exact absurd ⟨a, h2, Or.inl (by omega)⟩ w
        · omega
      · exact hb w' a (by omega)
    · refine Or.inr ⟨by omega, b2, b3, fun w' a a2 a3 => ?_⟩
      by_cases h : w' = i
      · subst h
        by_cases h2 : si w' < si b
        · exact absurd ⟨a, a3, Or.inr h2⟩ w
        · omega
      · exact hb w' a (by omega) a3
  have yes : (vtWa st wf c t i ∧ l < si i ∧ (b < 0 ∨ si i < si b)) → (zR (i + 1) ∧ ∀ x : Int, x = i + 1 → wX48_end_55 K t l st wf si c m i x) := fun w => by
    have := w.1.1
    refine ⟨by omega, fun _ e => ?_⟩
    rw [e]
    refine ih _ _ ⟨by omega, Or.inr ⟨by omega, w.1, w.2.1, fun w' a a2 a3 => ?_⟩⟩ (by omega)
    by_cases h : w' = i
    · subst h; omega
    · rcases hb with ⟨e1, hb⟩ | ⟨b1, b2, b3, hb⟩
      · have := hb w' a (by omega); omega
      · have := hb w' a (by omega) a3
        have := b2.1
        have := w.2.2
        omega
  have bb : ¬ b < 0 → 0 ≤ b ∧ b < 60 := fun w => by
    rcases hb with ⟨e1, -⟩ | ⟨b1, b2, -⟩
    · omega
    · have := b2.1; omega
  rw [wX48_end_55]
  refine ⟨fun z => ?_, fun z => ⟨by omega, fun e => ⟨fun e2 => ⟨fun e3 => no (fun w => by have := w.2.1; omega) (by omega), fun e3 => ⟨fun e4 => yes ⟨⟨by omega, e, e2⟩, by omega, Or.inl e4⟩, fun e4 => ⟨bb e4, fun e5 => no (fun w => by have := w.2.2; omega) (by omega), fun e5 => yes ⟨⟨by omega, e, e2⟩, by omega, Or.inr (by omega)⟩⟩⟩⟩, fun e2 => no (fun w => e2 w.1.2.2) (by omega)⟩, fun e => no (fun w => e w.1.2.1) (by omega)⟩⟩
  rcases hb with ⟨e1, hb⟩ | ⟨b1, b2, b3, hb⟩
  · rw [e1]; exact h0 (fun w a => hb w a (by have := a.1; omega))
  · exact h1 b b2 b3 (fun w a a2 => hb w a (by have := a.1; omega) a2)
theorem T48_e44 {K : (Int → Int) → Int → Prop} (hc : 0 ≤ c ∧ c ≤ 60) (ho4 : 0 ≤ o ∧ o + 60 ≤ 4000) (hs0 : ∀ w, vtWa st wf c t w → 0 ≤ si w) (hsd : ∀ w w', vtWa st wf c t w → vtWa st wf c t w' → si w = si w' → w = w') (hp : ∀ L q', vtQl st wf si c t L → vtQ q' o L → (∀ j, j < o → q' j = q j) → (L.length : Int) ≤ c → K q' (o + L.length)) : ∃ fu, wX48_end_44 K t st wf si c fu (-1) 1 q o := by
  have rb : ∀ l, 0 ≤ cntI (fun w => vtWa st wf c t w ∧ l < si w) c.toNat ∧ cntI (fun w => vtWa st wf c t w ∧ l < si w) c.toNat ≤ c := fun l => by
    have := cntI_b (fun w => vtWa st wf c t w ∧ l < si w) c.toNat; omega
  refine wl4 (fun m l g q' o' => wX48_end_44 K t st wf si c m l g q' o') (fun l g q' o' => (g = 0 ∨ g = 1) ∧ ∃ L : List Int, (∀ w, w ∈ L ↔ (vtWa st wf c t w ∧ si w ≤ l)) ∧ L.Pairwise (fun a b => si a < si b) ∧ vtQ q' o L ∧ o' = o + L.length ∧ (∀ j, j < o → q' j = q j) ∧ (g = 0 → ∀ w, vtWa st wf c t w → si w ≤ l) ∧ o' + cntI (fun w => vtWa st wf c t w ∧ l < si w) c.toNat ≤ o + c) (fun l g q' o' => (cntI (fun w => vtWa st wf c t w ∧ l < si w) c.toNat + g).toNat) ?_ (-1) 1 q o ⟨Or.inr rfl, [], fun w => ⟨fun h => absurd h (by simp), fun h => by have := hs0 w h.1; omega⟩, List.Pairwise.nil, fun i hi => absurd hi (by simp), by simp, fun _ _ => rfl, fun h => absurd h (by decide), by have := rb (-1); omega⟩
  rintro l g q' o' ⟨hg, L, m1, m2, m3, m4, m5, m6, m7⟩ m ih
  have rl := rb l
  rw [wX48_end_44]
  refine ⟨fun z => ?_, fun z => T48_e55 hc (fun w => ⟨fun _ => ?_, fun q => absurd (by decide) q⟩) (fun x hx hl hm => ⟨fun q => by have := hx.1; omega, fun _ => ?_⟩)⟩
  · rw [m4]
    refine hp L q' ⟨fun w => ⟨fun h => ((m1 w).mp h).1, fun h => (m1 w).mpr ⟨h, m6 z w h⟩⟩, m2⟩ m3 m5 (by omega)
  · unfold wX48_end_139
    refine ⟨fun _ => ?_, fun q => absurd rfl q⟩
    exact ih _ _ _ _ ⟨Or.inl rfl, L, m1, m2, m3, m4, m5, fun _ => w, m7⟩ (by omega)
  · have xb := hx.1
    have cu := cntI_u (p := fun w => vtWa st wf c t w ∧ si x < si w) (q := fun w => vtWa st wf c t w ∧ l < si w) (x0 := x) xb.1 (fun h => by have := h.2; omega) ⟨hx, hl⟩ (fun w hw => ⟨fun h => ⟨h.1, by have := h.2; omega⟩, fun h => ⟨h.1, by
      have a := hm w h.1 h.2
      by_cases e : si x = si w
      · exact absurd (hsd x w hx h.1 e).symm hw
      · omega⟩⟩) c.toNat
    rw [if_pos (by omega)] at cu
    have rx := rb (si x)
    unfold wX48_end_139
    refine ⟨fun q => absurd q (by decide), fun _ => ⟨by omega, fun _ e1 => ⟨by omega, fun _ e2 => ⟨by omega, fun _ e3 => ?_⟩⟩⟩⟩
    rw [e1, e2, e3, m4]
    refine ih _ _ _ _ ⟨Or.inr rfl, L ++ [x], fun w => ?_, ?_, vtQ_one m3, by rw [List.length_append, List.length_singleton]; omega, fun j hj => by rw [updI_n (by omega)]; exact m5 j hj, fun h => absurd h (by decide), by omega⟩ (by omega)
    · rw [List.mem_append, List.mem_singleton, m1 w]
      constructor
      · rintro (h | h)
        · exact ⟨h.1, by have := h.2; omega⟩
        · subst h; exact ⟨hx, Int.le_refl _⟩
      · intro h
        by_cases h2 : si w ≤ l
        · exact Or.inl ⟨h.1, h2⟩
        · have a := hm w h.1 (by omega)
          exact Or.inr (hsd w x h.1 hx (by have := h.2; omega))
    · rw [List.pairwise_append]
      refine ⟨m2, List.pairwise_singleton _ _, fun a ha b hb => ?_⟩
      rw [List.mem_singleton] at hb
      subst hb
      have := ((m1 a).mp ha).2
      omega
theorem T48_end {post : (Int → Int) → (Int → Int) → (Int → Int) → Int → Prop} {x : Int} (hc : 0 ≤ c ∧ c ≤ 60) (ht : 0 ≤ t ∧ t < 60) (ho4 : 0 ≤ o ∧ o + 60 ≤ 4000) (hs0 : ∀ w, vtWa (updI st t x) wf c t w → 0 ≤ si w) (hsd : ∀ w w', vtWa (updI st t x) wf c t w → vtWa (updI st t x) wf c t w' → si w = si w' → w = w') (hp : ∀ L q', vtQl (updI st t x) wf si c t L → vtQ q' o L → (∀ j, j < o → q' j = q j) → (L.length : Int) ≤ c → post (updI st t x) (vtHo ho t) q' (o + L.length)) : wpX48_end post st wf si c ho q o t x := by
  unfold wpX48_end
  refine ⟨ht, fun _ e => ?_⟩
  rw [e]
  exact T48_e9 (T48_e44 hc ho4 hs0 hsd (fun L q' a b d e => hp L q' a b d e))
/-- there is but one such list -/
theorem vtQl_u {si : Int → Int} : ∀ {L L' : List Int}, (∀ w, w ∈ L ↔ w ∈ L') → L.Pairwise (fun a b => si a < si b) → L'.Pairwise (fun a b => si a < si b) → L = L'
  | [], [], _, _, _ => rfl
  | [], b :: L', h, _, _ => absurd ((h b).mpr (by simp)) (by simp)
  | a :: L, [], h, _, _ => absurd ((h a).mp (by simp)) (by simp)
  | a :: L, b :: L', h, p, p' => by
    rw [List.pairwise_cons] at p p'
    have e : a = b := by
      have ha := (h a).mp (by simp)
      have hb := (h b).mpr (by simp)
      rw [List.mem_cons] at ha hb
      rcases ha with e | ha
      · exact e
      · rcases hb with e | hb
        · exact e.symm
        · have := p.1 b hb
          have := p'.1 a ha
          omega
    subst e
    refine congrArg _ (vtQl_u (fun w => ?_) p.2 p'.2)
    constructor
    · intro hw
      have := (h w).mp (List.mem_cons_of_mem _ hw)
      rw [List.mem_cons] at this
      rcases this with e | hw'
      · have := p.1 w hw; rw [e] at this; omega
      · exact hw'
    · intro hw
      have := (h w).mpr (List.mem_cons_of_mem _ hw)
      rw [List.mem_cons] at this
      rcases this with e | hw'
      · have := p'.1 w hw; rw [e] at this; omega
      · exact hw'
end

/-! VersionTrans, the reference (X48): rings -/
/-- a row of s numbers, rising, that holds those of M -/
def vtRg (rg : Int → Int) (s : Int) (M : Int → Prop) : Prop := (∀ i j, 0 ≤ i → i < j → j < s → rg i < rg j) ∧ ∀ w, (∃ i, (0 ≤ i ∧ i < s) ∧ rg i = w) ↔ M w
section
variable {rg wf st si ho q : Int → Int} {s x c t o : Int} {M : Int → Prop}
theorem T48_r22 {K : Int → (Int → Int) → Prop} (hs : 0 ≤ s ∧ s < 60) (R : vtRg rg s M) (hx : ¬ M x) (hp : ∀ y r, 0 ≤ y ∧ y ≤ s → vtRg (updI r y x) (s + 1) (fun w => M w ∨ w = x) → K y r) : ∃ fu, wX48_takeRing_22 K x fu s rg := by
  have nx : ∀ j, 0 ≤ j → j < s → rg j ≠ x := fun j a b e => hx ((R.2 x).mp ⟨j, ⟨a, b⟩, e⟩)
  refine wl2 (fun m y r => wX48_takeRing_22 K x m y r) (fun y r => (0 ≤ y ∧ y ≤ s) ∧ (∀ j, 0 ≤ j → j < y → r j = rg j) ∧ (∀ j, y ≤ j → j < s → r (j + 1) = rg j) ∧ ∀ j, y ≤ j → j < s → x < rg j) (fun y r => y.toNat) ?_ s rg ⟨by omega, fun _ _ _ => rfl, fun j a b => by omega, fun j a b => by omega⟩
  rintro y r ⟨hy, h1, h2, h3⟩ m ih
  have fin : (∀ j, 0 ≤ j → j < y → rg j < x) → K y r := fun h4 => by
    refine hp y r hy ⟨fun i j i0 ij js => ?_, fun w => ⟨fun ⟨i, hi, e⟩ => ?_, fun h => ?_⟩⟩
    · by_cases a : i = y
      · subst a
        rw [updI_s, updI_n (by omega)]
        have := h2 (j - 1) (by omega) (by omega)
        rw [Int.sub_add_cancel] at this
        rw [this]
        exact h3 _ (by omega) (by omega)
      · by_cases b : j = y
        · subst b
          rw [updI_s, updI_n a, h1 i i0 ij]
          exact h4 i i0 ij
        · rw [updI_n a, updI_n b]
          by_cases a' : i < y
          · rw [h1 i i0 a']
            by_cases b' : j < y
            · rw [h1 j (by omega) b']; exact R.1 i j i0 ij (by omega)
            · have := h2 (j - 1) (by omega) (by omega)
              rw [Int.sub_add_cancel] at this
              rw [this]
              have := h4 i i0 a'
              have := h3 (j - 1) (by omega) (by omega)
              omega
          · have e1 := h2 (i - 1) (by omega) (by omega)
            have e2 := h2 (j - 1) (by omega) (by omega)
            rw [Int.sub_add_cancel] at e1 e2
            rw [e1, e2]
            exact R.1 _ _ (by omega) (by omega) (by omega)
    · by_cases a : i = y
      · subst a; rw [updI_s] at e; exact Or.inr e.symm
      · rw [updI_n a] at e
        refine Or.inl ((R.2 w).mp ?_)
        by_cases a' : i < y
        · exact ⟨i, by omega, by rw [← h1 i hi.1 a']; exact e⟩
        · have e1 := h2 (i - 1) (by omega) (by omega)
          rw [Int.sub_add_cancel] at e1
          exact ⟨i - 1, by omega, by rw [← e1]; exact e⟩
    · rcases h with h | h
      · obtain ⟨i, hi, e⟩ := (R.2 w).mpr h
        by_cases a' : i < y
        · exact ⟨i, by omega, by rw [updI_n (by omega), h1 i hi.1 a']; exact e⟩
        · exact ⟨i + 1, by omega, by rw [updI_n (by omega), h2 i (by omega) hi.2]; exact e⟩
      · exact ⟨y, by omega, by rw [updI_s]; exact h.symm⟩
  rw [wX48_takeRing_22]
  refine ⟨fun z => fin (fun j a b => by omega), fun z => ⟨by omega, fun e => fin (fun j a b => ?_), fun e v ev => ⟨by omega, fun _ e2 => ⟨by omega, fun _ e3 => ?_⟩⟩⟩⟩
  · rw [h1 (y - 1) (by omega) (by omega)] at e
    have n1 := nx (y - 1) (by omega) (by omega)
    by_cases h : j = y - 1
    · subst h; omega
    · have := R.1 j (y - 1) a (by omega) (by omega); omega
  · rw [h1 (y - 1) (by omega) (by omega)] at e ev
    rw [e2, e3, ev]
    refine ih _ _ ⟨by omega, fun j a b => by rw [updI_n (by omega)]; exact h1 j a (by omega), fun j a b => ?_, fun j a b => ?_⟩ (by omega)
    · by_cases h : j = y - 1
      · subst h; rw [Int.sub_add_cancel, updI_s]
      · rw [updI_n (by omega)]; exact h2 j (by omega) b
    · by_cases h : j = y - 1
      · subst h; omega
      · exact h3 j (by omega) b
/-- there is but one such row -/
theorem vtRg_u {rg rg' : Int → Int} {s s' : Int} (R : vtRg rg s M) (R' : vtRg rg' s' M) (h : 0 ≤ s) (h' : 0 ≤ s') : ∀ i : Nat, (i : Int) < s → (i : Int) < s' → rg i = rg' i := by
  intro i
  induction i using Nat.strongRecOn with
  | _ i ih =>
    intro a a'
    obtain ⟨j, hj, ej⟩ := (R'.2 _).mpr ((R.2 (rg i)).mp ⟨i, by omega, rfl⟩)
    obtain ⟨j', hj', ej'⟩ := (R.2 _).mpr ((R'.2 (rg' i)).mp ⟨i, by omega, rfl⟩)
    have lo : ¬ j < i := fun w => by
      have e := ih j.toNat (by omega) (by omega) (by omega)
      rw [show ((j.toNat : Nat) : Int) = j by omega, ej] at e
      have := R.1 j i (by omega) w a
      omega
    have lo' : ¬ j' < i := fun w => by
      have e := ih j'.toNat (by omega) (by omega) (by omega)
      rw [show ((j'.toNat : Nat) : Int) = j' by omega, ej'] at e
      have := R'.1 j' i (by omega) w a'
      omega
    have g1 : rg' i ≤ rg i := by
      by_cases h2 : j = i
      · rw [h2] at ej; omega
      · have := R'.1 i j (by omega) (by omega) hj.2; omega
    have g2 : rg i ≤ rg' i := by
      by_cases h2 : j' = i
      · rw [h2] at ej'; omega
      · have := R.1 i j' (by omega) (by omega) hj'.2; omega
    omega
end

/-! VersionTrans, the reference (X48): rings are looked for -/
/-- the way of waits from t on -/
def vtP (wf : Int → Int) (t : Int) : Nat → Int
  | 0 => t
  | i + 1 => wf (vtP wf t i)
/-- n waits lead from t to itself, for the first time -/
def vtCy (st wf : Int → Int) (t : Int) (n : Nat) : Prop := (1 ≤ n ∧ n ≤ 60) ∧ vtP wf t n = t ∧ (∀ i, i < n → st (vtP wf t i) = 1) ∧ ∀ i, 1 ≤ i → i < n → vtP wf t i ≠ t
section
variable {rg wf st si ho q : Int → Int} {c t o : Int}
theorem vtP_a {a b : Nat} (e : vtP wf t a = vtP wf t b) : ∀ d : Nat, vtP wf t (a + d) = vtP wf t (b + d)
  | 0 => e
  | d + 1 => by
    show wf (vtP wf t (a + d)) = wf (vtP wf t (b + d))
    rw [vtP_a e d]
theorem vtCy.ne {n : Nat} (C : vtCy st wf t n) {i j : Nat} (h : i < j) (hj : j < n) : vtP wf t i ≠ vtP wf t j := fun e => by
  have := vtP_a e (n - j)
  rw [show j + (n - j) = n by omega, C.2.1] at this
  exact C.2.2.2 (i + (n - j)) (by omega) (by omega) this
theorem T48_l4 {K : Int → Prop} {N : Prop} (hw : ∀ w, 0 ≤ w → w < c → st w = 1 → 0 ≤ wf w ∧ wf w < c) (hc : c ≤ 60) (ht : 0 ≤ t ∧ t < c) (h1 : ∀ n : Nat, vtCy st wf t n → K n) (h0 : (∀ n, ¬ vtCy st wf t n) → N) : ∃ fu, wX48_lookForRing_4 K N t st wf fu 0 t := by
  refine wl2 (fun m n a => wX48_lookForRing_4 K N t st wf m n a) (fun n a => (0 ≤ n ∧ n ≤ 60) ∧ a = vtP wf t n.toNat ∧ (0 ≤ a ∧ a < c) ∧ (∀ i, i < n.toNat → st (vtP wf t i) = 1) ∧ ∀ i, 1 ≤ i → i ≤ n.toNat → vtP wf t i ≠ t) (fun n a => (60 - n).toNat) ?_ 0 t ⟨by decide, rfl, ht, fun i h => absurd h (by simp), fun i a b => by simp at b; omega⟩
  rintro n a ⟨hn, ea, ha, hs, hne⟩ m ih
  rw [wX48_lookForRing_4]
  refine ⟨by omega, fun e => ⟨fun e2 => h0 (fun n' C => ?_), fun e2 x e3 => ⟨by omega, fun _ e4 => ⟨fun e5 => ?_, fun e5 => ?_⟩⟩⟩, fun e => h0 (fun n' C => ?_)⟩
  · exact hne n' C.1.1 (by have := C.1; omega) C.2.1
  · have ex : x = vtP wf t (n.toNat + 1) := by rw [e3, ea]; rfl
    have := h1 (n.toNat + 1) ⟨by omega, by rw [← ex]; exact e5, fun i hi => ?_, fun i a b => hne i a (by omega)⟩
    · rw [e4, show n + 1 = ((n.toNat + 1 : Nat) : Int) by omega]; exact this
    · by_cases h : i = n.toNat
      · subst h; rw [← ea]; exact e
      · exact hs i (by omega)
  · have ex : x = vtP wf t (n.toNat + 1) := by rw [e3, ea]; rfl
    have hb := hw a ha.1 ha.2 e
    rw [e4]
    refine ih _ _ ⟨by omega, by rw [show (n + 1).toNat = n.toNat + 1 by omega]; exact ex, by rw [e3]; exact hb, fun i hi => ?_, fun i a b => ?_⟩ (by omega)
    · by_cases h : i = n.toNat
      · subst h; rw [← ea]; exact e
      · exact hs i (by omega)
    · by_cases h : i = n.toNat + 1
      · subst h; rw [← ex]; exact e5
      · exact hne i a (by omega)
  · by_cases h : n' ≤ n.toNat
    · exact hne n' C.1.1 h C.2.1
    · have := C.2.2.1 n.toNat (by omega)
      rw [← ea] at this
      exact e this
theorem T48_r10 {K : (Int → Int) → Int → Prop} {n : Nat} (C : vtCy st wf t n) (hw : ∀ w, 0 ≤ w → w < c → st w = 1 → 0 ≤ wf w ∧ wf w < c) (hc : c ≤ 60) (ht : 0 ≤ t ∧ t < c) (hp : ∀ r, vtRg r n (fun w => ∃ i, i < n ∧ vtP wf t i = w) → K r n) : ∃ fu, wX48_takeRing_10 K n wf fu t 0 rg 0 := by
  have pb : ∀ i, i ≤ n → 0 ≤ vtP wf t i ∧ vtP wf t i < c := by
    intro i
    induction i with
    | zero => intro _; exact ht
    | succ i ih => intro hi; have := ih (by omega); exact hw _ this.1 this.2 (C.2.2.1 i (by omega))
  have n60 := C.1
  refine wl4 (fun m a k r s => wX48_takeRing_10 K n wf m a k r s) (fun a k r s => (0 ≤ k ∧ k ≤ n) ∧ a = vtP wf t k.toNat ∧ s = k ∧ vtRg r k (fun w => ∃ i, i < k.toNat ∧ vtP wf t i = w)) (fun a k r s => (n - k).toNat) ?_ t 0 rg 0 ⟨by omega, rfl, rfl, fun i j a b d => by omega, fun w => ⟨fun ⟨i, hi, _⟩ => by omega, fun ⟨i, hi, _⟩ => absurd hi (by simp)⟩⟩
  rintro a k r s ⟨hk, ea, es, R⟩ m ih
  subst es
  rw [wX48_takeRing_10]
  refine ⟨fun z => ?_, fun z => ?_⟩
  · have e : s = n := by omega
    subst e
    rw [Int.toNat_natCast] at R
    exact hp r R
  · have ab := pb s.toNat (by omega)
    rw [← ea] at ab
    refine T48_r22 ⟨hk.1, by omega⟩ R (fun ⟨i, hi, e⟩ => C.ne hi (by omega) (by rw [e, ea])) (fun y r' hy R' => ?_)
    unfold wX48_takeRing_62
    refine ⟨by omega, fun _ e1 => ⟨by omega, fun _ e2 => ⟨by omega, fun _ e3 => ⟨by omega, fun _ e4 => ?_⟩⟩⟩⟩
    rw [e1, e2, e3, e4]
    refine ih _ _ _ _ ⟨by omega, by rw [show (s + 1).toNat = s.toNat + 1 by omega, ea]; rfl, rfl, R'.1, fun w => ?_⟩ (by omega)
    rw [R'.2 w]
    constructor
    · rintro (⟨i, hi, e⟩ | e)
      · exact ⟨i, by omega, e⟩
      · exact ⟨s.toNat, by omega, by rw [e, ea]⟩
    · rintro ⟨i, hi, e⟩
      by_cases h : i = s.toNat
      · subst h; exact Or.inr (by rw [ea]; exact e.symm)
      · exact Or.inl ⟨i, by omega, e⟩
end

/-! VersionTrans, the reference (X48): writes, changed -/
/-- how many writes a transaction has -/
noncomputable def vtWs (N : Nat) (ws : Int → Int) (t : Int) : Int := cntI (fun k => 0 < ws (200 * t + k)) N
/-- graph g has changed for one that sees v -/
def vtCg (vr : Int → Int → Int) (v g : Int) : Prop := ∃ k, (50 * g ≤ k ∧ k < 50 * g + 50) ∧ vtAb vr k v
section
variable {rt rv re no se ws : Int → Int} {n c t : Int} {vr nt : Int → Int → Int}
theorem T48_writes {post : Int → Prop} (ht : 0 ≤ t ∧ t < 60) (hp : post (vtWs 200 ws t)) : wpX48_writes post ws t := by
  obtain ⟨N, eN⟩ : ∃ N : Nat, N = 200 := ⟨_, rfl⟩
  rw [← eN] at hp
  unfold wpX48_writes
  refine wl2 (fun m x k => wX48_writes_4 _ t ws m x k) (fun x k => (0 ≤ k ∧ k ≤ 200) ∧ x = cntI (fun k => 0 < ws (200 * t + k)) k.toNat) (fun x k => (200 - k).toNat) ?_ 0 0 ⟨by decide, rfl⟩
  rintro x k ⟨hk, hx⟩ m ih
  have cb := cntI_b (fun k => 0 < ws (200 * t + k)) k.toNat
  rw [wX48_writes_4]
  refine ⟨fun z => ?_, fun z => ⟨by omega, fun e => ⟨by omega, fun _ e1 => ⟨by omega, fun _ e2 => ?_⟩⟩, fun e => ⟨by omega, fun _ e1 => ⟨by omega, fun _ e2 => ?_⟩⟩⟩⟩
  · have : k.toNat = N := by omega
    rw [this] at hx
    rw [hx]; exact hp
  · rw [e1, e2, Int.add_zero]
    exact ih _ _ ⟨by omega, by rw [cntI_f hk.1 (show ¬ 0 < ws (200 * t + k) by omega)]; exact hx⟩ (by omega)
  · rw [e1, e2]
    exact ih _ _ ⟨by omega, by rw [cntI_t hk.1 (show 0 < ws (200 * t + k) by omega), hx]⟩ (by omega)
theorem T48_c28 {P Q : Prop} {g : Int} (hR : vtR rt rv re n vr) (hn : 0 ≤ n ∧ n ≤ 13000) (ht : 0 ≤ t ∧ t < 60) (hg : 0 ≤ g ∧ g < 4) (h1 : vtCg vr (se t) g → P) (h0 : ¬ vtCg vr (se t) g → Q) : ∃ fu, wX48_changed_28 P Q t g rt rv n se fu (50 * g) := by
  refine zl1 (fun m k => wX48_changed_28 P Q t g rt rv n se m k) (fun k => 50 * g ≤ k ∧ ∀ j, 50 * g ≤ j → j < k → ¬ vtAb vr j (se t)) (50 * g + 50) ?_ ⟨by omega, fun j a b => by omega⟩ (by omega)
  rintro m k ⟨k0, hk⟩ hN ih
  rw [wX48_changed_28]
  refine ⟨by omega, fun z => h0 (fun ⟨j, hj, w⟩ => hk j hj.1 (by omega) w), fun z => ⟨ht, T48_aboveB hR hn (fun w => h1 ⟨k, by omega, w⟩) (fun w => ⟨by omega, fun _ e => ?_⟩)⟩⟩
  rw [e]
  refine ih (by omega) ⟨by omega, fun j a b => ?_⟩
  by_cases h : j = k
  · subst h; exact w
  · exact hk j a (by omega)
theorem T48_changed {post : Int → Prop} (hR : vtR rt rv re n vr) (hn : 0 ≤ n ∧ n ≤ 13000) (hN : vtNt no c nt) (ht : 0 ≤ t ∧ t < c) (hc : c ≤ 60) (h0 : (∀ g, 0 ≤ g → g < 4 → ¬ nt t g = 0 → ¬ vtCg vr (se t) g) → post (-1)) (h1 : ∀ g, 0 ≤ g → g < 4 → ¬ nt t g = 0 → vtCg vr (se t) g → (∀ h, 0 ≤ h → h < g → ¬ nt t h = 0 → ¬ vtCg vr (se t) h) → post g) : wpX48_changed post rt rv n se no t := by
  unfold wpX48_changed
  have N := (hN t ht.1 ht.2).2
  refine zl1 (i0 := 0) (fun m g => wX48_changed_2 (fun x2 => post x2) (post (-1)) t rt rv n se no m g) (fun g => 0 ≤ g ∧ ∀ h, 0 ≤ h → h < g → ¬ nt t h = 0 → ¬ vtCg vr (se t) h) 4 ?_ ⟨by decide, fun j a b => by omega⟩ (by decide)
  rintro m g ⟨g0, hg⟩ hN ih
  have step : (¬ nt t g = 0 → ¬ vtCg vr (se t) g) → g < 4 → (zR (g + 1) ∧ ∀ x : Int, x = g + 1 → wX48_changed_2 (fun x2 => post x2) (post (-1)) t rt rv n se no m x) := fun w hlt => by
    refine ⟨by omega, fun _ e => ?_⟩
    rw [e]
    refine ih hlt ⟨by omega, fun h a b => ?_⟩
    by_cases e2 : h = g
    · subst e2; exact w
    · exact hg h a (by omega)
  rw [wX48_changed_2]
  refine ⟨fun z => h0 (fun h a b => hg h a (by omega)), fun z => ⟨by omega, by omega, ?_⟩⟩
  rw [N g g0 (by omega)]
  refine ⟨fun e => step (fun w => absurd e w) (by omega), fun e => ⟨by omega, fun _ e2 => ?_⟩⟩
  rw [e2]
  exact T48_c28 hR hn (by omega) ⟨g0, by omega⟩ (fun w => h1 g g0 (by omega) e w hg) (fun w => step (fun _ => w) (by omega))
end

/-! VersionTrans, the reference (X48): a ring is found and broken -/
/-- those that wait: their turns are told apart -/
def vtSi (st wf si : Int → Int) (c ck : Int) : Prop := (∀ w, 0 ≤ w → w < c → st w = 1 → (0 ≤ wf w ∧ wf w < c) ∧ 0 ≤ si w ∧ si w < ck) ∧ ∀ w w', 0 ≤ w → w < c → st w = 1 → 0 ≤ w' → w' < c → st w' = 1 → si w = si w' → w = w'
section
variable {rg wf st si ho q : Int → Int} {c t o s ck : Int}
theorem vtWa_o {t x w : Int} (hx : x ≠ 1) (h : vtWa (updI st t x) wf c t w) : (0 ≤ w ∧ w < c) ∧ st w = 1 := by
  obtain ⟨a, b, -⟩ := h
  by_cases e : w = t
  · rw [e, updI_s] at b; exact absurd b hx
  · rw [updI_n e] at b; exact ⟨a, b⟩
theorem T48_endS {post : (Int → Int) → (Int → Int) → (Int → Int) → Int → Prop} {x : Int} (hc : 0 ≤ c ∧ c ≤ 60) (hS : vtSi st wf si c ck) (hx : x ≠ 1) (ht : 0 ≤ t ∧ t < 60) (ho4 : 0 ≤ o ∧ o + 60 ≤ 4000) (hp : ∀ L q', vtQl (updI st t x) wf si c t L → vtQ q' o L → (∀ j, j < o → q' j = q j) → (L.length : Int) ≤ c → post (updI st t x) (vtHo ho t) q' (o + L.length)) : wpX48_end post st wf si c ho q o t x :=
  T48_end hc ht ho4 (fun w h => (hS.1 w (vtWa_o hx h).1.1 (vtWa_o hx h).1.2 (vtWa_o hx h).2).2.1) (fun w w' h h' e => hS.2 w w' (vtWa_o hx h).1.1 (vtWa_o hx h).1.2 (vtWa_o hx h).2 (vtWa_o hx h').1.1 (vtWa_o hx h').1.2 (vtWa_o hx h').2 e) hp
theorem T48_look4 {post : (Int → Int) → (Int → Int) → (Int → Int) → Int → (Int → Int) → Int → Prop} (hc : 0 ≤ c ∧ c ≤ 60) (hS : vtSi st wf si c ck) (ht : 0 ≤ t ∧ t < c) (ho4 : 0 ≤ o ∧ o + 60 ≤ 4000) (h0 : (∀ n, ¬ vtCy st wf t n) → post st ho q o rg s) (h1 : ∀ (n : Nat) r, vtCy st wf t n → vtRg r n (fun w => ∃ i, i < n ∧ vtP wf t i = w) → ∀ L q', vtQl (updI st (r (n - 1)) 4) wf si c (r (n - 1)) L → vtQ q' o L → (∀ j, j < o → q' j = q j) → (L.length : Int) ≤ c → post (updI st (r (n - 1)) 4) (vtHo ho (r (n - 1))) q' (o + L.length) r n) : wpX48_lookForRing post st wf si c ho q o rg s t := by
  unfold wpX48_lookForRing
  refine T48_l4 (fun w a b e => (hS.1 w a b e).1) hc.2 ht (fun n C => ?_) h0
  unfold wpX48_takeRing
  have n60 := C.1
  refine T48_r10 C (fun w a b e => (hS.1 w a b e).1) hc.2 ht (fun r R => ⟨by omega, ?_⟩)
  have pb : ∀ i, i < n → 0 ≤ vtP wf t i ∧ vtP wf t i < c := by
    intro i
    induction i with
    | zero => intro _; exact ht
    | succ i ih => intro hi; have := ih (by omega); exact (hS.1 _ this.1 this.2 (C.2.2.1 i (by omega))).1
  obtain ⟨i, hi, e⟩ := (R.2 (r (n - 1))).mp ⟨n - 1, by omega, rfl⟩
  have yb := pb i hi
  rw [e] at yb
  exact T48_endS hc hS (by decide) ⟨yb.1, by omega⟩ ho4 (h1 n r C R)
end

/-! VersionTrans: the lists as functions of the state -/
noncomputable def vtL (st wf si : Int → Int) (c t : Int) : List Int := Classical.epsilon (fun L => vtQl st wf si c t L)
theorem vtL_eq {st wf si : Int → Int} {c t : Int} {L : List Int} (h : vtQl st wf si c t L) : vtL st wf si c t = L := by
  have s : vtQl st wf si c t (vtL st wf si c t) := Classical.epsilon_spec (p := fun L => vtQl st wf si c t L) ⟨L, h⟩
  exact vtQl_u (si := si) (fun w => (s.1 w).trans (h.1 w).symm) s.2 h.2
/-- the ring, by numbers -/
def vtRq (wf : Int → Int) (t : Int) (n : Nat) (R : List Int) : Prop := (∀ w, w ∈ R ↔ ∃ i, i < n ∧ vtP wf t i = w) ∧ R.Pairwise (fun a b => id a < id b)
noncomputable def vtRl (wf : Int → Int) (t : Int) (n : Nat) : List Int := Classical.epsilon (fun R => vtRq wf t n R)
theorem vtRl_eq {wf : Int → Int} {t : Int} {n : Nat} {R : List Int} (h : vtRq wf t n R) : vtRl wf t n = R := by
  have s : vtRq wf t n (vtRl wf t n) := Classical.epsilon_spec (p := fun R => vtRq wf t n R) ⟨R, h⟩
  exact vtQl_u (si := id) (fun w => (s.1 w).trans (h.1 w).symm) s.2 h.2
theorem vtRg_l {wf r : Int → Int} {t : Int} {n : Nat} (R : vtRg r n (fun w => ∃ i, i < n ∧ vtP wf t i = w)) : vtRq wf t n ((List.range n).map (fun i : Nat => r (i : Int))) := by
  refine ⟨fun w => ?_, ?_⟩
  · refine Iff.trans ?_ (R.2 w)
    rw [List.mem_map]
    constructor
    · rintro ⟨i, hi, e⟩
      rw [List.mem_range] at hi
      exact ⟨i, by omega, e⟩
    · rintro ⟨i, hi, e⟩
      exact ⟨i.toNat, by rw [List.mem_range]; omega, by rw [show ((i.toNat : Nat) : Int) = i by omega]; exact e⟩
  · rw [List.pairwise_map]
    refine List.Pairwise.imp_of_mem (fun {a b} ha hb h => ?_) (List.pairwise_lt_range (n := n))
    rw [List.mem_range] at ha hb
    exact R.1 a b (by omega) (by omega) (by omega)
theorem vtRg_Q {r : Int → Int} {n : Nat} : vtQ r 0 ((List.range n).map (fun i : Nat => r (i : Int))) := by
  intro i hi
  rw [List.length_map, List.length_range] at hi
  rw [List.getD_eq_getElem?_getD, List.getElem?_map, List.getElem?_range hi, Int.zero_add]
  rfl
theorem vtCy_u {st wf : Int → Int} {t : Int} {n n' : Nat} (C : vtCy st wf t n) (C' : vtCy st wf t n') : n = n' := by
  have h1 : ¬ n < n' := fun h => C'.2.2.2 n C.1.1 h C.2.1
  have h2 : ¬ n' < n := fun h => C.2.2.2 n' C'.1.1 h C'.2.1
  omega

/-! VersionTrans: the state of transactions; a write -/
/-- states, wrote, waitsFor, waitTriples, waitTells, since, clock, holders, queue, ring, failures -/
def VS : Type := (Int → Int) × (Int → Int) × (Int → Int) × (Int → Int) × (Int → Int) × (Int → Int) × Int × (Int → Int) × List Int × List Int × (Int → Int)
def VS.st (S : VS) : Int → Int := S.1
def VS.ws (S : VS) : Int → Int := S.2.1
def VS.wf (S : VS) : Int → Int := S.2.2.1
def VS.wt (S : VS) : Int → Int := S.2.2.2.1
def VS.wl (S : VS) : Int → Int := S.2.2.2.2.1
def VS.si (S : VS) : Int → Int := S.2.2.2.2.2.1
def VS.ck (S : VS) : Int := S.2.2.2.2.2.2.1
def VS.ho (S : VS) : Int → Int := S.2.2.2.2.2.2.2.1
def VS.Q (S : VS) : List Int := S.2.2.2.2.2.2.2.2.1
def VS.R (S : VS) : List Int := S.2.2.2.2.2.2.2.2.2.1
def VS.fl (S : VS) : Int → Int := S.2.2.2.2.2.2.2.2.2.2
def VS.mk (st ws wf wt wl si : Int → Int) (ck : Int) (ho : Int → Int) (Q R : List Int) (fl : Int → Int) : VS := (st, ws, wf, wt, wl, si, ck, ho, Q, R, fl)
noncomputable def vEnd (c t x : Int) (S : VS) : VS := VS.mk (updI S.st t x) S.ws S.wf S.wt S.wl S.si S.ck (vtHo S.ho t) (S.Q ++ vtL (updI S.st t x) S.wf S.si c t) S.R S.fl
noncomputable def vRing (c t : Int) (S : VS) : VS := pif (∃ n, vtCy S.st S.wf t n) (vEnd c ((vtRl S.wf t (Classical.epsilon (fun n => vtCy S.st S.wf t n))).getD ((Classical.epsilon (fun n => vtCy S.st S.wf t n)) - 1) 0) 4 (VS.mk S.st S.ws S.wf S.wt S.wl S.si S.ck S.ho S.Q (vtRl S.wf t (Classical.epsilon (fun n => vtCy S.st S.wf t n))) S.fl)) S
noncomputable def vWrite (c : Int) (vr : Int → Int → Int) (se : Int → Int) (t k e : Int) (S : VS) : VS :=
  pif (vtAb vr k (se t)) (VS.mk (updI (updI S.st t 0) t 2) S.ws (updI S.wf t (-1)) S.wt S.wl S.si S.ck S.ho S.Q S.R (updI S.fl k (S.fl k + 1)))
    (pif (0 ≤ S.ho k ∧ S.ho k ≠ t) (vRing c t (VS.mk (updI (updI S.st t 0) t 1) S.ws (updI (updI S.wf t (-1)) t (S.ho k)) (updI S.wt t k) (updI S.wl t e) (updI S.si t S.ck) (S.ck + 1) S.ho S.Q S.R S.fl))
      (VS.mk (updI S.st t 0) (updI S.ws (200 * t + k) (if e = 0 then 1 else 2)) (updI S.wf t (-1)) S.wt S.wl S.si S.ck (updI S.ho k t) S.Q S.R S.fl))
theorem vtQ_app {q q' : Int → Int} {o : Int} {L L' : List Int} (h : vtQ q o L) (h' : vtQ q' (o + L.length) L') (e : ∀ j, j < o + L.length → q' j = q j) : vtQ q' o (L ++ L') := by
  intro i hi
  rw [List.length_append] at hi
  by_cases a : i < L.length
  · rw [e _ (by omega), h i a]
    simp [List.getD_eq_getElem?_getD, List.getElem?_append_left a]
  · have := h' (i - L.length) (by omega)
    rw [show o + (L.length : Int) + ((i - L.length : Nat) : Int) = o + i by omega] at this
    rw [this]
    simp [List.getD_eq_getElem?_getD, List.getElem?_append_right (show L.length ≤ i by omega)]

/-! VersionTrans, the reference (X48): a write -/
section
variable {rt rv re se q rg : Int → Int} {n c t k e qf : Int} {vr : Int → Int → Int} {S : VS}
theorem vtSi_w {st wf si : Int → Int} {ck b : Int} (hS : vtSi st wf si c ck) (hck : 0 ≤ ck) (hb : 0 ≤ b ∧ b < c) : vtSi (updI (updI st t 0) t 1) (updI (updI wf t (-1)) t b) (updI si t ck) c (ck + 1) := by
  refine ⟨fun w a d h => ?_, fun w w' a d h a' d' h' es => ?_⟩
  · by_cases e : w = t
    · rw [e, updI_s, updI_s]; exact ⟨hb, by omega⟩
    · rw [updI_n e, updI_n e] at h
      rw [updI_n e, updI_n e, updI_n e]
      have := hS.1 w a d h
      exact ⟨this.1, by omega⟩
  · by_cases e : w = t
    · by_cases e' : w' = t
      · rw [e, e']
      · rw [updI_n e', updI_n e'] at h'
        rw [e, updI_s, updI_n e'] at es
        have := hS.1 w' a' d' h'
        omega
    · rw [updI_n e, updI_n e] at h
      by_cases e' : w' = t
      · rw [e', updI_s, updI_n e] at es
        have := hS.1 w a d h
        omega
      · rw [updI_n e', updI_n e'] at h'
        rw [updI_n e, updI_n e'] at es
        exact hS.2 w w' a d h a' d' h' es
theorem vRing_t {m : Nat} {y : Int} {R L : List Int} (C : vtCy S.st S.wf t m) (hR : vtRq S.wf t m R) (hy : R.getD (m - 1) 0 = y) (hL : vtQl (updI S.st y 4) S.wf S.si c y L) : vRing c t S = VS.mk (updI S.st y 4) S.ws S.wf S.wt S.wl S.si S.ck (vtHo S.ho y) (S.Q ++ L) R S.fl := by
  have em : Classical.epsilon (fun m => vtCy S.st S.wf t m) = m := vtCy_u (Classical.epsilon_spec (p := fun m => vtCy S.st S.wf t m) ⟨m, C⟩) C
  unfold vRing
  rw [pif_t ⟨m, C⟩, em, vtRl_eq hR, hy]
  unfold vEnd
  have := vtL_eq hL
  show VS.mk (updI S.st y 4) S.ws S.wf S.wt S.wl S.si S.ck (vtHo S.ho y) (S.Q ++ vtL (updI S.st y 4) S.wf S.si c y) R S.fl = _
  rw [this]
theorem vRing_f (h : ∀ m, ¬ vtCy S.st S.wf t m) : vRing c t S = S := by
  unfold vRing
  exact pif_f (fun ⟨m, C⟩ => h m C)
theorem T48_write {post : (Int → Int) → (Int → Int) → (Int → Int) → (Int → Int) → (Int → Int) → (Int → Int) → Int → (Int → Int) → (Int → Int) → Int → (Int → Int) → Int → (Int → Int) → Prop} (hR : vtR rt rv re n vr) (hn : 0 ≤ n ∧ n ≤ 13000) (hc : 0 ≤ c ∧ c ≤ 60) (ht : 0 ≤ t ∧ t < c) (hk : 0 ≤ k ∧ k < 200) (he : e = 0 ∨ e = 1) (hS : vtSi S.st S.wf S.si c S.ck) (hck : 0 ≤ S.ck ∧ S.ck ≤ 1000000) (hho : S.ho k < c) (hfl : 0 ≤ S.fl k ∧ S.fl k ≤ 1000000) (hqf : 0 ≤ qf ∧ qf + S.Q.length + 60 ≤ 4000) (hq : vtQ q qf S.Q) (hr : vtQ rg 0 S.R)
    (hp : ∀ q' rg', vtQ q' qf (vWrite c vr se t k e S).Q → vtQ rg' 0 (vWrite c vr se t k e S).R → post (vWrite c vr se t k e S).st (vWrite c vr se t k e S).ws (vWrite c vr se t k e S).wf (vWrite c vr se t k e S).wt (vWrite c vr se t k e S).wl (vWrite c vr se t k e S).si (vWrite c vr se t k e S).ck (vWrite c vr se t k e S).ho q' (qf + (vWrite c vr se t k e S).Q.length) rg' (vWrite c vr se t k e S).R.length (vWrite c vr se t k e S).fl) :
    wpX48_write post rt rv n se S.st S.ws S.wf S.wt S.wl S.si S.ck c S.ho q (qf + S.Q.length) rg S.R.length S.fl t k e := by
  unfold wpX48_write
  refine ⟨by omega, fun _ e1 _ e2 => ?_⟩
  rw [e1, e2]
  have w124 : ¬ vtAb vr k (se t) → ¬ (0 ≤ S.ho k ∧ S.ho k ≠ t) → wX48_write_124 post t k e (updI S.st t 0) S.ws (updI S.wf t (-1)) S.wt S.wl S.si S.ck S.ho q (qf + S.Q.length) rg S.R.length S.fl := fun a b => by
    unfold vWrite at hp
    rw [pif_f a, pif_f b] at hp
    unfold wX48_write_124
    refine ⟨hk, fun _ e3 => ⟨fun e4 => ⟨by omega, fun _ e5 => ?_⟩, fun e4 => ⟨by omega, fun _ e5 => ?_⟩⟩⟩
    · rw [e3, e5]; rw [if_pos e4] at hp; exact hp q rg hq hr
    · rw [e3, e5]; rw [if_neg e4] at hp; exact hp q rg hq hr
  refine T48_aboveB hR hn (fun a => ?_) (fun a => ⟨hk, fun b => w124 a (by omega), fun b => ⟨fun d => w124 a (by omega), fun d => ?_⟩⟩)
  · unfold vWrite at hp
    rw [pif_t a] at hp
    intro _ e3
    refine ⟨hk, by omega, fun _ e4 _ e5 => ?_⟩
    rw [e3, e5, e4]
    exact hp q rg hq hr
  · intro _ e3 _ e4 _ e5 _ e6
    refine ⟨he, fun _ e7 _ e8 => ⟨by omega, fun _ e9 => ?_⟩⟩
    rw [e3, e5, e4, e6, e7, e8, e9]
    have S2 := vtSi_w (t := t) hS hck.1 (b := S.ho k) ⟨by omega, hho⟩
    unfold vWrite at hp
    rw [pif_f a, pif_t ⟨by omega, d⟩] at hp
    obtain ⟨T, eT⟩ : ∃ T : VS, T = VS.mk (updI (updI S.st t 0) t 1) S.ws (updI (updI S.wf t (-1)) t (S.ho k)) (updI S.wt t k) (updI S.wl t e) (updI S.si t S.ck) (S.ck + 1) S.ho S.Q S.R S.fl := ⟨_, rfl⟩
    rw [← eT] at hp
    refine T48_look4 hc S2 ht ⟨by omega, by omega⟩ (fun w => ?_) (fun m r C R L q' hL hQ hq' hl => ?_)
    · rw [vRing_f (by rw [eT]; exact w), eT] at hp
      exact hp q rg hq hr
    · have m1 := C.1
      have eg : ((List.range m).map (fun i : Nat => r (i : Int))).getD (m - 1) 0 = r (m - 1) := by
        rw [List.getD_eq_getElem?_getD, List.getElem?_map, List.getElem?_range (by omega)]
        show r ((m - 1 : Nat) : Int) = _
        rw [show ((m - 1 : Nat) : Int) = (m : Int) - 1 by omega]
      rw [vRing_t (S := T) (L := L) (by rw [eT]; exact C) (by rw [eT]; exact vtRg_l R) eg (by rw [eT]; exact hL), eT] at hp
      have key := hp q' r (vtQ_app hq hQ hq') vtRg_Q
      have l1 : (((List.range m).map (fun i : Nat => r (i : Int))).length : Int) = m := by rw [List.length_map, List.length_range]
      have l2 : qf + ((S.Q ++ L).length : Int) = qf + S.Q.length + L.length := by rw [List.length_append]; omega
      have key2 : post (updI (updI (updI S.st t 0) t 1) (r (m - 1)) 4) S.ws (updI (updI S.wf t (-1)) t (S.ho k)) (updI S.wt t k) (updI S.wl t e) (updI S.si t S.ck) (S.ck + 1) (vtHo S.ho (r (m - 1))) q' (qf + ((S.Q ++ L).length : Int)) r (((List.range m).map (fun i : Nat => r (i : Int))).length : Int) S.fl := key
      rw [l1, l2] at key2
      exact key2
end

/-! VersionTrans: all that is in the queue is tried again -/
def VS.pop (S : VS) : VS := VS.mk S.st S.ws S.wf S.wt S.wl S.si S.ck S.ho S.Q.tail S.R S.fl
/-- one step: the head of the queue is taken -/
noncomputable def vStep (c : Int) (vr : Int → Int → Int) (se : Int → Int) (S : VS) : VS := if S.st (S.Q.headD 0) = 1 then vWrite c vr se (S.Q.headD 0) (S.wt (S.Q.headD 0)) (S.wl (S.Q.headD 0)) S.pop else S.pop
noncomputable def vGo (c : Int) (vr : Int → Int → Int) (se : Int → Int) : Nat → VS → VS
  | 0 => fun S => S
  | m + 1 => fun S => if S.Q = [] then S else vGo c vr se m (vStep c vr se S)
/-- how many are live -/
noncomputable def vD (c : Int) (S : VS) : Int := cntI (fun t => S.st t < 3) c.toNat
theorem vGo_s {c : Int} {vr : Int → Int → Int} {se : Int → Int} {S : VS} {m : Nat} (h : ¬ S.Q = []) : vGo c vr se (m + 1) S = vGo c vr se m (vStep c vr se S) := by
  show (if S.Q = [] then S else vGo c vr se m (vStep c vr se S)) = _
  rw [if_neg h]
theorem vGo_e {c : Int} {vr : Int → Int → Int} {se : Int → Int} {S : VS} (h : S.Q = []) : ∀ m, vGo c vr se m S = S
  | 0 => rfl
  | m + 1 => by
    show (if S.Q = [] then S else vGo c vr se m (vStep c vr se S)) = _
    rw [if_pos h]
/-- once the queue is empty, more steps do nothing -/
theorem vGo_m {c : Int} {vr : Int → Int → Int} {se : Int → Int} : ∀ {m d : Nat} {S : VS}, (vGo c vr se m S).Q = [] → vGo c vr se (m + d) S = vGo c vr se m S
  | 0, d, S, h => by rw [vGo_e (show S.Q = [] from h), vGo_e (show S.Q = [] from h)]
  | m + 1, d, S, h => by
    by_cases e : S.Q = []
    · rw [vGo_e e, vGo_e e]
    · rw [vGo_s e] at h
      rw [show m + 1 + d = (m + d) + 1 by omega, vGo_s e, vGo_s e, vGo_m h]

/-! VersionTrans: what holds of the state between steps -/
/-- waits go round no ring -/
def vtAc (st wf : Int → Int) (c : Int) : Prop := ∃ rk : Int → Nat, ∀ w, 0 ≤ w → w < c → st w = 1 → rk (wf w) < rk w
/-- the way from h comes to t -/
def vtRc (st wf : Int → Int) (t h : Int) : Prop := ∃ n, vtP wf h n = t ∧ ∀ i, i < n → st (vtP wf h i) = 1
theorem vtP_s {wf : Int → Int} {w : Int} : ∀ i, vtP wf w (i + 1) = vtP wf (wf w) i
  | 0 => rfl
  | i + 1 => by
    show wf (vtP wf w (i + 1)) = wf (vtP wf (wf w) i)
    rw [vtP_s i]
theorem vtAc_sub {st wf st' wf' : Int → Int} {c : Int} (h : vtAc st wf c) (e : ∀ w, 0 ≤ w → w < c → st' w = 1 → st w = 1 ∧ wf' w = wf w) : vtAc st' wf' c := by
  obtain ⟨rk, h⟩ := h
  refine ⟨rk, fun w a b s => ?_⟩
  rw [(e w a b s).2]
  exact h w a b (e w a b s).1
theorem vtAc_new {st wf st' wf' : Int → Int} {c t h : Int} (H : vtAc st wf c) (e : ∀ w, 0 ≤ w → w < c → w ≠ t → st' w = 1 → st w = 1 ∧ wf' w = wf w) (et : wf' t = h) (hn : ¬ vtRc st wf t h) : vtAc st' wf' c := by
  obtain ⟨rk, H⟩ := H
  refine ⟨fun w => rk w + pif (vtRc st wf t w) (rk h + 1) 0, fun w a b s => ?_⟩
  by_cases hw : w = t
  · subst hw
    have hr : vtRc st wf w w := ⟨0, rfl, fun i hi => absurd hi (Nat.not_lt_zero i)⟩
    show rk (wf' w) + pif (vtRc st wf w (wf' w)) (rk h + 1) 0 < rk w + pif (vtRc st wf w w) (rk h + 1) 0
    rw [et, pif_f hn, pif_t hr]
    omega
  · obtain ⟨s1, s2⟩ := e w a b hw s
    have r := H w a b s1
    show rk (wf' w) + pif (vtRc st wf t (wf' w)) (rk h + 1) 0 < rk w + pif (vtRc st wf t w) (rk h + 1) 0
    rw [s2]
    by_cases hr : vtRc st wf t (wf w)
    · have hr2 : vtRc st wf t w := by
        obtain ⟨n, e1, e2⟩ := hr
        refine ⟨n + 1, by rw [vtP_s]; exact e1, fun i hi => ?_⟩
        cases i with
        | zero => exact s1
        | succ i => rw [vtP_s]; exact e2 i (by omega)
      rw [pif_t hr, pif_t hr2]; omega
    · rw [pif_f hr]; omega
/-- a way from t to itself has at most c steps -/
theorem vtCy_of {st wf : Int → Int} {c t : Int} (hc : 0 ≤ c ∧ c ≤ 60) (hw : ∀ w, 0 ≤ w → w < c → st w = 1 → 0 ≤ wf w ∧ wf w < c) (ht : 0 ≤ t ∧ t < c) : ∀ n : Nat, 1 ≤ n → vtP wf t n = t → (∀ i, i < n → st (vtP wf t i) = 1) → ∃ m, m ≤ n ∧ vtCy st wf t m := by
  intro n
  induction n using Nat.strongRecOn with
  | _ n ih =>
    intro h1 e s
    by_cases h : ∃ i, 1 ≤ i ∧ i < n ∧ vtP wf t i = t
    · obtain ⟨i, i1, i2, ei⟩ := h
      obtain ⟨m, hm, C⟩ := ih i i2 i1 ei (fun j hj => s j (by omega))
      exact ⟨m, by omega, C⟩
    · have first : ∀ i, 1 ≤ i → i < n → vtP wf t i ≠ t := fun i a b e => h ⟨i, a, b, e⟩
      have pb : ∀ i, i ≤ n → 0 ≤ vtP wf t i ∧ vtP wf t i < c := by
        intro i
        induction i with
        | zero => intro _; exact ht
        | succ i ih2 => intro hi; have := ih2 (by omega); exact hw _ this.1 this.2 (s i (by omega))
      have le := pig_le (f := vtP wf t) (c := c.toNat) (n := n) (fun i hi => by have := pb i (by omega); omega) (fun i j a b e2 => by
        have := vtP_a e2 (n - j)
        rw [show j + (n - j) = n by omega, e] at this
        exact first (i + (n - j)) (by omega) (by omega) this)
      exact ⟨n, Nat.le_refl _, ⟨⟨h1, by omega⟩, e, s, first⟩⟩
section
variable {st wf si : Int → Int} {c t ck : Int}
/-- those that wait can be put in order -/
theorem vtQl_x (hS : vtSi st wf si c ck) : ∀ n : Nat, ∃ L : List Int, (∀ w, w ∈ L ↔ (vtWa st wf c t w ∧ si w < n)) ∧ L.Pairwise (fun a b => si a < si b) ∧ (L.length : Int) = cntI (fun w => vtWa st wf c t w ∧ si w < n) c.toNat
  | 0 => by
    have no : ∀ w, ¬ (vtWa st wf c t w ∧ si w < ((0 : Nat) : Int)) := fun w h => by
      have := (hS.1 w h.1.1.1 h.1.1.2 h.1.2.1).2; have := h.2; omega
    refine ⟨[], fun w => ⟨fun h => absurd h (List.not_mem_nil), fun h => absurd h (no w)⟩, List.Pairwise.nil, ?_⟩
    have : ∀ m : Nat, cntI (fun w => vtWa st wf c t w ∧ si w < ((0 : Nat) : Int)) m = 0 := by
      intro m
      induction m with
      | zero => rfl
      | succ m ih => unfold cntI; rw [ih, pif_f (no _)]; rfl
    rw [this]; rfl
  | n + 1 => by
    obtain ⟨L, l1, l2, l3⟩ := vtQl_x hS n
    by_cases h : ∃ x, vtWa st wf c t x ∧ si x = n
    · obtain ⟨x, hx, ex⟩ := h
      refine ⟨L ++ [x], fun w => ?_, ?_, ?_⟩
      · rw [List.mem_append, List.mem_singleton, l1 w]
        constructor
        · rintro (h | h)
          · exact ⟨h.1, by have := h.2; omega⟩
          · subst h; exact ⟨hx, by omega⟩
        · intro h
          by_cases h2 : si w < n
          · exact Or.inl ⟨h.1, h2⟩
          · exact Or.inr (hS.2 w x h.1.1.1 h.1.1.2 h.1.2.1 hx.1.1 hx.1.2 hx.2.1 (by have := h.2; omega))
      · rw [List.pairwise_append]
        refine ⟨l2, List.pairwise_singleton _ _, fun a ha b hb => ?_⟩
        rw [List.mem_singleton] at hb
        subst hb
        have := ((l1 a).mp ha).2
        omega
      · have cu := cntI_u (p := fun w => vtWa st wf c t w ∧ si w < (n : Int)) (q := fun w => vtWa st wf c t w ∧ si w < ((n + 1 : Nat) : Int)) (x0 := x) hx.1.1 (fun h => by have := h.2; omega) ⟨hx, by omega⟩ (fun w hw => ⟨fun h => ⟨h.1, by have := h.2; omega⟩, fun h => ⟨h.1, by
          have : si w ≠ n := fun e => hw (hS.2 w x h.1.1.1 h.1.1.2 h.1.2.1 hx.1.1 hx.1.2 hx.2.1 (by omega))
          have := h.2
          omega⟩⟩) c.toNat
        rw [if_pos (by have := hx.1; omega)] at cu
        rw [cu, List.length_append, List.length_singleton, ← l3]; omega
    · refine ⟨L, fun w => ?_, l2, ?_⟩
      · rw [l1 w]
        exact ⟨fun h => ⟨h.1, by have := h.2; omega⟩, fun h2 => ⟨h2.1, by
          have : si w ≠ n := fun e => h ⟨w, h2.1, e⟩
          have := h2.2
          omega⟩⟩
      · rw [l3]
        exact cntI_c (fun w _ _ => ⟨fun h => ⟨h.1, by have := h.2; omega⟩, fun h2 => ⟨h2.1, by
          have : si w ≠ n := fun e => h ⟨w, h2.1, e⟩
          have := h2.2
          omega⟩⟩)
theorem vtQl_ex (hS : vtSi st wf si c ck) (hc : 0 ≤ c) (hk : 0 ≤ ck) : vtQl st wf si c t (vtL st wf si c t) ∧ ((vtL st wf si c t).length : Int) ≤ c := by
  obtain ⟨L, l1, l2, l3⟩ := vtQl_x (t := t) hS ck.toNat
  have h : vtQl st wf si c t L := ⟨fun w => (l1 w).trans ⟨fun h => h.1, fun h => ⟨h, by have := (hS.1 w h.1.1 h.1.2 h.2.1).2; omega⟩⟩, l2⟩
  rw [vtL_eq h]
  have := cntI_b (fun w => vtWa st wf c t w ∧ si w < (ck.toNat : Int)) c.toNat
  exact ⟨h, by omega⟩
end
/-- between steps; wr: who writes -/
def vJ (c : Int) (wr : Int → Int) (S : VS) : Prop := vtSi S.st S.wf S.si c S.ck ∧ (∀ k, 0 ≤ k → k < 200 → S.ho k = -1 ∨ ((0 ≤ S.ho k ∧ S.ho k < c) ∧ S.st (S.ho k) < 3 ∧ wr (S.ho k) ≠ 0)) ∧ (∀ w, 0 ≤ w → w < c → S.st w = 1 → ((0 ≤ S.wt w ∧ S.wt w < 200) ∧ (S.wl w = 0 ∨ S.wl w = 1)) ∧ wr w ≠ 0 ∧ wr (S.wf w) ≠ 0) ∧ (∀ w, w ∈ S.Q → (0 ≤ w ∧ w < c) ∧ wr w ≠ 0) ∧ 0 ≤ S.ck ∧ ∀ w, 0 ≤ w → w < c → 0 ≤ S.st w ∧ S.st w ≤ 4
def vI (c : Int) (wr : Int → Int) (S : VS) : Prop := vJ c wr S ∧ vtAc S.st S.wf c
/-- what is left to do -/
noncomputable def vM (c : Int) (S : VS) : Int := S.Q.length + 60 * vD c S
theorem vD_b {c : Int} {S : VS} (hc : 0 ≤ c) : 0 ≤ vD c S ∧ vD c S ≤ c := by
  have := cntI_b (fun t => S.st t < 3) c.toNat
  unfold vD; omega
theorem vD_dn {c t : Int} {S S' : VS} (ht : 0 ≤ t ∧ t < c) (h : S.st t < 3) (h' : ¬ S'.st t < 3) (e : ∀ w, w ≠ t → S'.st w = S.st w) : vD c S = vD c S' + 1 := by
  have cu := cntI_u (p := fun t => S'.st t < 3) (q := fun t => S.st t < 3) (x0 := t) ht.1 h' h (fun w hw => by show S'.st w < 3 ↔ S.st w < 3; rw [e w hw]) c.toNat
  rw [if_pos (by omega)] at cu
  exact cu
theorem vD_eq {c : Int} {S S' : VS} (e : ∀ w, 0 ≤ w → w < c → (S'.st w < 3 ↔ S.st w < 3)) (hc : 0 ≤ c) : vD c S' = vD c S := cntI_c (fun w a b => e w a (by omega))
section
variable {wr se : Int → Int} {c t k e x : Int} {vr : Int → Int → Int} {S : VS}
theorem vtSi_u (hS : vtSi S.st S.wf S.si c S.ck) (hx : x ≠ 1) : vtSi (updI S.st t x) S.wf S.si c S.ck := by
  have q : ∀ w, updI S.st t x w = 1 → S.st w = 1 := fun w h => by
    by_cases e : w = t
    · rw [e, updI_s] at h; exact absurd h hx
    · rw [updI_n e] at h; exact h
  exact ⟨fun w a b h => hS.1 w a b (q w h), fun w w' a b h a' b' h' => hS.2 w w' a b (q w h) a' b' (q w' h')⟩
theorem vEnd_J (hI : vJ c wr S) (hc : 0 ≤ c ∧ c ≤ 60) (ht : 0 ≤ t ∧ t < c) (hx : 3 ≤ x ∧ x ≤ 4) (hs : S.st t < 3) : vJ c wr (vEnd c t x S) ∧ vM c (vEnd c t x S) ≤ vM c S ∧ (vEnd c t x S).Q = S.Q ++ vtL (updI S.st t x) S.wf S.si c t ∧ ((vtL (updI S.st t x) S.wf S.si c t).length : Int) ≤ 60 := by
  obtain ⟨i1, i2, i3, i4, i6, i7⟩ := hI
  have S' := vtSi_u (t := t) (x := x) i1 (by omega)
  obtain ⟨q1, q2⟩ := vtQl_ex (t := t) S' hc.1 i6
  have od : ∀ w, updI S.st t x w = 1 → w ≠ t ∧ S.st w = 1 := fun w h => by
    by_cases e : w = t
    · rw [e, updI_s] at h; omega
    · rw [updI_n e] at h; exact ⟨e, h⟩
  refine ⟨⟨S', fun k a b => ?_, fun w a b h => i3 w a b (od w h).2, fun w hw => ?_, i6, fun w a b => ?_⟩, ?_, rfl, by omega⟩
  · show vtHo S.ho t k = -1 ∨ ((0 ≤ vtHo S.ho t k ∧ vtHo S.ho t k < c) ∧ updI S.st t x (vtHo S.ho t k) < 3 ∧ wr (vtHo S.ho t k) ≠ 0)
    unfold vtHo
    by_cases h : S.ho k = t
    · rw [if_pos ⟨a, b, h⟩]; exact Or.inl rfl
    · rw [if_neg (fun w => h w.2.2)]
      rcases i2 k a b with e | ⟨e1, e2, e3⟩
      · exact Or.inl e
      · refine Or.inr ⟨e1, ?_, e3⟩
        rw [updI_n h]; exact e2
  · have hw : w ∈ S.Q ++ vtL (updI S.st t x) S.wf S.si c t := hw
    rcases List.mem_append.mp hw with h | h
    · exact i4 w h
    · have h2 := (q1.1 w).mp h
      exact ⟨h2.1, (i3 w h2.1.1 h2.1.2 (od w h2.2.1).2).2.1⟩
  · show 0 ≤ updI S.st t x w ∧ updI S.st t x w ≤ 4
    by_cases e : w = t
    · rw [e, updI_s]; omega
    · rw [updI_n e]; exact i7 w a b
  · have d := vD_dn (S := S) (S' := vEnd c t x S) ht hs (by show ¬ updI S.st t x t < 3; rw [updI_s]; omega) (fun w hw => updI_n hw)
    have l : ((vEnd c t x S).Q.length : Int) = S.Q.length + (vtL (updI S.st t x) S.wf S.si c t).length := by
      show ((S.Q ++ vtL (updI S.st t x) S.wf S.si c t).length : Int) = _
      rw [List.length_append]; omega
    unfold vM
    omega
theorem vEnd_I (hI : vI c wr S) (hc : 0 ≤ c ∧ c ≤ 60) (ht : 0 ≤ t ∧ t < c) (hx : 3 ≤ x ∧ x ≤ 4) (hs : S.st t < 3) : vI c wr (vEnd c t x S) ∧ vM c (vEnd c t x S) ≤ vM c S :=
  ⟨⟨(vEnd_J hI.1 hc ht hx hs).1, vtAc_sub hI.2 (fun w a b h => ⟨by
    have h : updI S.st t x w = 1 := h
    by_cases e : w = t
    · rw [e, updI_s] at h; omega
    · rw [updI_n e] at h; exact h, rfl⟩)⟩, (vEnd_J hI.1 hc ht hx hs).2.1⟩
theorem vtPn {wf wf' : Int → Int} {t h : Int} {n : Nat} (hn : ∀ i, i < n → vtP wf h i ≠ t) (et : wf' t = h) (e : ∀ w, w ≠ t → wf' w = wf w) : ∀ j, j ≤ n → vtP wf' t (j + 1) = vtP wf h j
  | 0, _ => et
  | j + 1, hj => by
    show wf' (vtP wf' t (j + 1)) = wf (vtP wf h j)
    rw [vtPn hn et e j (by omega)]
    exact e _ (hn j (by omega))
theorem vRing_c (hS : vtSi S.st S.wf S.si c S.ck) (hc : 0 ≤ c ∧ c ≤ 60) (ht : 0 ≤ t ∧ t < c) : ((∀ m, ¬ vtCy S.st S.wf t m) ∧ vRing c t S = S) ∨ ∃ m y, vtCy S.st S.wf t m ∧ (0 ≤ y ∧ y < c) ∧ ((∃ i, i < m ∧ vtP S.wf t i = y) ∧ ∀ i, i < m → vtP S.wf t i ≤ y) ∧ ((lsI (fun w => ∃ i, i < m ∧ vtP S.wf t i = w) c.toNat).length = m ∧ (lsI (fun w => ∃ i, i < m ∧ vtP S.wf t i = w) c.toNat).getD (m - 1) 0 = y) ∧ vRing c t S = vEnd c y 4 (VS.mk S.st S.ws S.wf S.wt S.wl S.si S.ck S.ho S.Q (lsI (fun w => ∃ i, i < m ∧ vtP S.wf t i = w) c.toNat) S.fl) := by
  by_cases h : ∃ m, vtCy S.st S.wf t m
  · refine Or.inr ?_
    obtain ⟨m, C⟩ := h
    have pb : ∀ i, i < m → 0 ≤ vtP S.wf t i ∧ vtP S.wf t i < c := by
      intro i
      induction i with
      | zero => intro _; exact ht
      | succ i ih => intro hi; have := ih (by omega); exact (hS.1 _ this.1 this.2 (C.2.2.1 i (by omega))).1
    obtain ⟨R, eR⟩ : ∃ R, R = lsI (fun w => ∃ i, i < m ∧ vtP S.wf t i = w) c.toNat := ⟨_, rfl⟩
    have mR : ∀ w, w ∈ R ↔ ∃ i, i < m ∧ vtP S.wf t i = w := fun w => by
      rw [eR, lsI_m]
      exact ⟨fun h => h.2, fun ⟨i, hi, e⟩ => ⟨by have := pb i hi; omega, i, hi, e⟩⟩
    have pR : R.Pairwise (fun a b => a < b) := by rw [eR]; exact lsI_p
    have lR : R.length = m := by
      have a := lsI_l (p := fun w => ∃ i, i < m ∧ vtP S.wf t i = w) (n := c.toNat)
      have b := pigI (f := vtP S.wf t) (c := c.toNat) m (fun i hi => by have := pb i hi; omega) (fun i j a b => C.ne a b)
      rw [eR]; omega
    have m1 := C.1
    have ly := last_m (R := R) (by omega)
    obtain ⟨i0, hi0, ei0⟩ := (mR _).mp ly
    refine ⟨m, R.getD (m - 1) 0, C, ?_, ⟨?_, fun i hi => ?_⟩, ?_, ?_⟩
    · rw [← lR, ← ei0]; exact pb i0 hi0
    · rw [← lR]
      rw [lR] at ei0 ⊢
      exact ⟨i0, hi0, ei0⟩
    · have := last_le pR ((mR _).mpr ⟨i, hi, rfl⟩)
      rw [lR] at this; exact this
    · rw [← eR]; exact ⟨lR, rfl⟩
    · have em : Classical.epsilon (fun m => vtCy S.st S.wf t m) = m := vtCy_u (Classical.epsilon_spec (p := fun m => vtCy S.st S.wf t m) ⟨m, C⟩) C
      have rq : vtRq S.wf t m R := ⟨mR, pR⟩
      unfold vRing
      rw [pif_t ⟨m, C⟩, em, vtRl_eq rq, ← eR]
  · exact Or.inl ⟨fun m C => h ⟨m, C⟩, vRing_f (fun m C => h ⟨m, C⟩)⟩
theorem vWrite_I (hI : vI c wr S) (hc : 0 ≤ c ∧ c ≤ 60) (ht : 0 ≤ t ∧ t < c) (hr : wr t ≠ 0) (hs : S.st t < 3) (hk : 0 ≤ k ∧ k < 200) (he : e = 0 ∨ e = 1) : vI c wr (vWrite c vr se t k e S) ∧ vM c (vWrite c vr se t k e S) ≤ vM c S ∧ (S.ck ≤ (vWrite c vr se t k e S).ck ∧ (vWrite c vr se t k e S).ck ≤ S.ck + 1) ∧ ∀ j, S.fl j ≤ (vWrite c vr se t k e S).fl j ∧ (vWrite c vr se t k e S).fl j ≤ S.fl j + 1 := by
  obtain ⟨⟨i1, i2, i3, i4, i6, i7⟩, i5⟩ := id hI
  unfold vWrite
  by_cases a : vtAb vr k (se t)
  · rw [pif_t a]
    have od : ∀ w, updI (updI S.st t 0) t 2 w = 1 → w ≠ t ∧ S.st w = 1 := fun w h => by
      by_cases e : w = t
      · rw [e, updI_s] at h; omega
      · rw [updI_n e, updI_n e] at h; exact ⟨e, h⟩
    refine ⟨⟨⟨⟨fun w a b h => ?_, fun w w' a b h a' b' h' es => i1.2 w w' a b (od w h).2 a' b' (od w' h').2 es⟩, fun k' a b => ?_, fun w a b h => ?_, i4, i6, fun w a b => ?_⟩, vtAc_sub i5 (fun w a b h => ⟨(od w h).2, updI_n (od w h).1⟩)⟩, ?_, ⟨Int.le_refl _, by show S.ck ≤ S.ck + 1; omega⟩, fun j => ?_⟩
    · show (0 ≤ updI S.wf t (-1) w ∧ updI S.wf t (-1) w < c) ∧ _
      rw [updI_n (od w h).1]; exact i1.1 w a b (od w h).2
    · rcases i2 k' a b with e | ⟨e1, e2, e3⟩
      · exact Or.inl e
      · refine Or.inr ⟨e1, ?_, e3⟩
        show updI (updI S.st t 0) t 2 (S.ho k') < 3
        by_cases h : S.ho k' = t
        · rw [h, updI_s]; decide
        · rw [updI_n h, updI_n h]; exact e2
    · have := i3 w a b (od w h).2
      refine ⟨this.1, this.2.1, ?_⟩
      show wr (updI S.wf t (-1) w) ≠ 0
      rw [updI_n (od w h).1]; exact this.2.2
    · show 0 ≤ updI (updI S.st t 0) t 2 w ∧ updI (updI S.st t 0) t 2 w ≤ 4
      by_cases e : w = t
      · rw [e, updI_s]; decide
      · rw [updI_n e, updI_n e]; exact i7 w a b
    · refine Int.le_of_eq ?_
      unfold vM
      rw [vD_eq (S := S) (fun w a b => ?_) hc.1]
      · rfl
      · show updI (updI S.st t 0) t 2 w < 3 ↔ S.st w < 3
        by_cases e : w = t
        · rw [e, updI_s]; exact ⟨fun _ => hs, fun _ => by decide⟩
        · rw [updI_n e, updI_n e]
    · show S.fl j ≤ updI S.fl k (S.fl k + 1) j ∧ updI S.fl k (S.fl k + 1) j ≤ S.fl j + 1
      by_cases e : j = k
      · rw [e, updI_s]; omega
      · rw [updI_n e]; omega
  rw [pif_f a]
  by_cases b : 0 ≤ S.ho k ∧ S.ho k ≠ t
  · rw [pif_t b]
    have hb : (0 ≤ S.ho k ∧ S.ho k < c) ∧ S.st (S.ho k) < 3 ∧ wr (S.ho k) ≠ 0 := by
      rcases i2 k hk.1 hk.2 with e | e
      · omega
      · exact e
    obtain ⟨T, eT⟩ : ∃ T : VS, T = VS.mk (updI (updI S.st t 0) t 1) S.ws (updI (updI S.wf t (-1)) t (S.ho k)) (updI S.wt t k) (updI S.wl t e) (updI S.si t S.ck) (S.ck + 1) S.ho S.Q S.R S.fl := ⟨_, rfl⟩
    have Tst : T.st = updI (updI S.st t 0) t 1 := by rw [eT]; rfl
    have Twf : T.wf = updI (updI S.wf t (-1)) t (S.ho k) := by rw [eT]; rfl
    have Tho : T.ho = S.ho := by rw [eT]; rfl
    have TQ : T.Q = S.Q := by rw [eT]; rfl
    have Tck : T.ck = S.ck + 1 := by rw [eT]; rfl
    have Tfl : T.fl = S.fl := by rw [eT]; rfl
    have s1 : T.st t = 1 := by rw [Tst, updI_s]
    have s0 : ∀ w, w ≠ t → T.st w = S.st w := fun w h => by rw [Tst, updI_n h, updI_n h]
    have f1 : T.wf t = S.ho k := by rw [Twf, updI_s]
    have f0 : ∀ w, w ≠ t → T.wf w = S.wf w := fun w h => by rw [Twf, updI_n h, updI_n h]
    have TS : vtSi T.st T.wf T.si c T.ck := by rw [eT]; exact vtSi_w i1 i6 hb.1
    have TJ : vJ c wr T := by
      refine ⟨TS, fun k' a b => ?_, fun w a b h => ?_, by rw [TQ]; exact i4, by rw [Tck]; omega, fun w a b => ?_⟩
      · rw [Tho]
        rcases i2 k' a b with e | ⟨e1, e2, e3⟩
        · exact Or.inl e
        · refine Or.inr ⟨e1, ?_, e3⟩
          by_cases h : S.ho k' = t
          · rw [h, s1]; decide
          · rw [s0 _ h]; exact e2
      · by_cases e' : w = t
        · subst e'
          rw [f1]
          refine ⟨?_, hr, hb.2.2⟩
          have x1 : T.wt w = k := by rw [eT]; exact updI_s
          have x2 : T.wl w = e := by rw [eT]; exact updI_s
          rw [x1, x2]; exact ⟨hk, he⟩
        · rw [s0 w e'] at h
          rw [f0 w e']
          have x1 : T.wt w = S.wt w := by rw [eT]; exact updI_n e'
          have x2 : T.wl w = S.wl w := by rw [eT]; exact updI_n e'
          rw [x1, x2]; exact i3 w a b h
      · by_cases e' : w = t
        · rw [e', s1]; decide
        · rw [s0 w e']; exact i7 w a b
    have TM : vM c T = vM c S := by
      unfold vM
      rw [vD_eq (S := S) (S' := T) (fun w a b => ?_) hc.1, TQ]
      by_cases e : w = t
      · rw [e, s1]; exact ⟨fun _ => hs, fun _ => by decide⟩
      · rw [s0 w e]
    rw [← eT]
    rcases vRing_c (S := T) TS hc ht with ⟨n1, n2⟩ | ⟨m, y, C, yb, ⟨⟨i0, hi0, ei0⟩, ym⟩, -, e4⟩
    · rw [n2]
      refine ⟨⟨TJ, ?_⟩, by omega, by omega, fun j => by rw [Tfl]; omega⟩
      refine vtAc_new (st := updI S.st t 0) (wf := S.wf) (t := t) (h := S.ho k) (vtAc_sub i5 (fun w a b h => ⟨?_, rfl⟩)) (fun w a b hw h => ⟨?_, f0 w hw⟩) f1 ?_
      · by_cases e : w = t
        · rw [e, updI_s] at h; omega
        · rw [updI_n e] at h; exact h
      · rw [updI_n hw, ← s0 w hw]; exact h
      · rintro ⟨n, e1, e2⟩
        have ne : ∀ i, i < n → vtP S.wf (S.ho k) i ≠ t := fun i hi e => by
          have := e2 i hi
          rw [e, updI_s] at this; omega
        have P := vtPn ne f1 f0
        obtain ⟨m, -, C⟩ := vtCy_of (st := T.st) (wf := T.wf) hc (fun w a b h => (TS.1 w a b h).1) ht (n + 1) (by omega) (by rw [P n (Nat.le_refl _)]; exact e1) (fun i hi => by
          cases i with
          | zero => exact s1
          | succ i =>
            rw [P i (by omega), s0 _ (ne i (by omega))]
            have := e2 i (by omega)
            rw [updI_n (ne i (by omega))] at this
            exact this)
        exact n1 m C
    · obtain ⟨T', eT'⟩ : ∃ T' : VS, T' = VS.mk T.st T.ws T.wf T.wt T.wl T.si T.ck T.ho T.Q (lsI (fun w => ∃ i, i < m ∧ vtP T.wf t i = w) c.toNat) T.fl := ⟨_, rfl⟩
      have J' : vJ c wr T' := by rw [eT']; exact TJ
      have M' : vM c T' = vM c T := by rw [eT']; rfl
      have ys : T.st y = 1 := by rw [← ei0]; exact C.2.2.1 i0 hi0
      have ys' : T'.st y < 3 := by rw [eT']; show T.st y < 3; omega
      obtain ⟨E1, E2, -⟩ := vEnd_J J' hc yb (x := 4) (by decide) ys'
      rw [e4, ← eT']
      have ck' : (vEnd c y 4 T').ck = T.ck := by rw [eT']; rfl
      have fl' : (vEnd c y 4 T').fl = T.fl := by rw [eT']; rfl
      have st' : (vEnd c y 4 T').st = updI T.st y 4 := by rw [eT']; rfl
      have wf' : (vEnd c y 4 T').wf = T.wf := by rw [eT']; rfl
      refine ⟨⟨E1, ?_⟩, by omega, by omega, fun j => by rw [fl', Tfl]; omega⟩
      rw [st', wf']
      by_cases yt : y = t
      · refine vtAc_sub i5 (fun w a b h => ?_)
        have hw : w ≠ t := fun e => by rw [e, ← yt, updI_s] at h; omega
        rw [updI_n (by rw [yt]; exact hw), s0 w hw] at h
        exact ⟨h, f0 w hw⟩
      · refine vtAc_new (st := updI (updI S.st t 0) y 4) (wf := S.wf) (t := t) (h := S.ho k) (vtAc_sub i5 (fun w a b h => ⟨?_, rfl⟩)) (fun w a b hw h => ⟨?_, f0 w hw⟩) f1 ?_
        · by_cases e : w = y
          · rw [e, updI_s] at h; omega
          · rw [updI_n e] at h
            by_cases e' : w = t
            · rw [e', updI_s] at h; omega
            · rw [updI_n e'] at h; exact h
        · have hy : w ≠ y := fun e => by rw [e, updI_s] at h; omega
          rw [updI_n hy, s0 w hw] at h
          rw [updI_n hy, updI_n hw]; exact h
        · rintro ⟨n, e1, e2⟩
          have st0 : updI (updI S.st t 0) y 4 t = 0 := by rw [updI_n (fun e => yt e.symm), updI_s]
          have ne : ∀ i, i < n → vtP S.wf (S.ho k) i ≠ t := fun i hi e => by
            have := e2 i hi
            rw [e, st0] at this; omega
          have P := vtPn ne f1 f0
          have i1' : 1 ≤ i0 := by
            rcases Nat.eq_zero_or_pos i0 with h | h
            · rw [h] at ei0; exact absurd ei0.symm yt
            · exact h
          by_cases h : i0 - 1 < n
          · have := e2 (i0 - 1) h
            have q := P (i0 - 1) (by omega)
            rw [show i0 - 1 + 1 = i0 by omega, ei0] at q
            rw [← q, updI_s] at this
            omega
          · have q := P n (Nat.le_refl _)
            rw [e1] at q
            exact C.2.2.2 (n + 1) (by omega) (by omega) q
  · rw [pif_f b]
    have od : ∀ w, updI S.st t 0 w = 1 → w ≠ t ∧ S.st w = 1 := fun w h => by
      by_cases e : w = t
      · rw [e, updI_s] at h; omega
      · rw [updI_n e] at h; exact ⟨e, h⟩
    refine ⟨⟨⟨⟨fun w a b h => ?_, fun w w' a b h a' b' h' es => i1.2 w w' a b (od w h).2 a' b' (od w' h').2 es⟩, fun k' a b => ?_, fun w a b h => ?_, i4, i6, fun w a b => ?_⟩, vtAc_sub i5 (fun w a b h => ⟨(od w h).2, updI_n (od w h).1⟩)⟩, ?_, ⟨Int.le_refl _, by show S.ck ≤ S.ck + 1; omega⟩, fun j => by show S.fl j ≤ S.fl j ∧ S.fl j ≤ S.fl j + 1; omega⟩
    · show (0 ≤ updI S.wf t (-1) w ∧ updI S.wf t (-1) w < c) ∧ _
      rw [updI_n (od w h).1]; exact i1.1 w a b (od w h).2
    · show updI S.ho k t k' = -1 ∨ ((0 ≤ updI S.ho k t k' ∧ updI S.ho k t k' < c) ∧ updI S.st t 0 (updI S.ho k t k') < 3 ∧ wr (updI S.ho k t k') ≠ 0)
      by_cases hk' : k' = k
      · rw [hk', updI_s, updI_s]; exact Or.inr ⟨ht, by decide, hr⟩
      · rw [updI_n hk']
        rcases i2 k' a b with e | ⟨e1, e2, e3⟩
        · exact Or.inl e
        · refine Or.inr ⟨e1, ?_, e3⟩
          by_cases h : S.ho k' = t
          · rw [h, updI_s]; decide
          · rw [updI_n h]; exact e2
    · have := i3 w a b (od w h).2
      refine ⟨this.1, this.2.1, ?_⟩
      show wr (updI S.wf t (-1) w) ≠ 0
      rw [updI_n (od w h).1]; exact this.2.2
    · show 0 ≤ updI S.st t 0 w ∧ updI S.st t 0 w ≤ 4
      by_cases e : w = t
      · rw [e, updI_s]; decide
      · rw [updI_n e]; exact i7 w a b
    · refine Int.le_of_eq ?_
      unfold vM
      rw [vD_eq (S := S) (fun w a b => ?_) hc.1]
      · rfl
      · show updI S.st t 0 w < 3 ↔ S.st w < 3
        by_cases e : w = t
        · rw [e, updI_s]; exact ⟨fun _ => hs, fun _ => by decide⟩
        · rw [updI_n e]
end

/-! VersionTrans: goOn -/
section
variable {wr se : Int → Int} {c : Int} {vr : Int → Int → Int} {S : VS}
theorem vPop_I (hI : vI c wr S) : vI c wr S.pop := by
  obtain ⟨⟨i1, i2, i3, i4, i6, i7⟩, i5⟩ := id hI
  exact ⟨⟨i1, i2, i3, fun w hw => i4 w (List.mem_of_mem_tail hw), i6, i7⟩, i5⟩
theorem vPop_M (h : ¬ S.Q = []) : vM c S.pop = vM c S - 1 := by
  have : 0 < S.Q.length := List.length_pos_iff.mpr h
  have l : (S.pop.Q.length : Int) = S.Q.length - 1 := by
    show (S.Q.tail.length : Int) = _
    rw [List.length_tail]; omega
  have d : vD c S.pop = vD c S := rfl
  unfold vM
  omega
theorem vStep_I (hI : vI c wr S) (hc : 0 ≤ c ∧ c ≤ 60) (h : ¬ S.Q = []) : vI c wr (vStep c vr se S) ∧ vM c (vStep c vr se S) < vM c S ∧ (S.ck ≤ (vStep c vr se S).ck ∧ (vStep c vr se S).ck ≤ S.ck + 1) ∧ ∀ j, S.fl j ≤ (vStep c vr se S).fl j ∧ (vStep c vr se S).fl j ≤ S.fl j + 1 := by
  have P := vPop_I hI
  have M := vPop_M (c := c) h
  have hm : S.Q.headD 0 ∈ S.Q := by
    cases hq : S.Q with
    | nil => exact absurd hq h
    | cons a l => exact List.mem_cons_self
  have hb := hI.1.2.2.2.1 _ hm
  unfold vStep
  by_cases e : S.st (S.Q.headD 0) = 1
  · rw [if_pos e]
    have w := hI.1.2.2.1 _ hb.1.1 hb.1.2 e
    obtain ⟨a1, a2, a3, a4⟩ := vWrite_I (vr := vr) (se := se) P hc hb.1 hb.2 (by show S.st (S.Q.headD 0) < 3; omega) w.1.1 w.1.2
    exact ⟨a1, by omega, a3, a4⟩
  · rw [if_neg e]
    exact ⟨P, by omega, by show S.ck ≤ S.ck ∧ S.ck ≤ S.ck + 1; omega, fun j => by show S.fl j ≤ S.fl j ∧ S.fl j ≤ S.fl j + 1; omega⟩
theorem vM_b (hc : 0 ≤ c ∧ c ≤ 60) : 0 ≤ vM c S ∧ (S.Q.length : Int) ≤ vM c S ∧ vM c S ≤ S.Q.length + 3600 := by
  have := vD_b (S := S) hc.1
  unfold vM; omega
theorem vGo_z (hc : 0 ≤ c ∧ c ≤ 60) : ∀ (m : Nat) (S : VS), vI c wr S → vM c S ≤ m → (vGo c vr se m S).Q = []
  | 0, S, hI, h => by
    have := vM_b (S := S) hc
    have l : S.Q.length = 0 := by omega
    exact List.length_eq_zero_iff.mp l
  | m + 1, S, hI, h => by
    by_cases e : S.Q = []
    · rw [vGo_e e]; exact e
    · rw [vGo_s e]
      have := vStep_I (vr := vr) (se := se) hI hc e
      exact vGo_z hc m _ this.1 (by omega)
/-- all that is in the queue is tried again -/
noncomputable def vG (c : Int) (vr : Int → Int → Int) (se : Int → Int) (S : VS) : VS := vGo c vr se 4000 S
theorem vG_e (h : S.Q = []) : vG c vr se S = S := vGo_e h _
theorem vG_s (hI : vI c wr S) (hc : 0 ≤ c ∧ c ≤ 60) (h : ¬ S.Q = []) (hM : vM c S ≤ 3999) : vG c vr se S = vG c vr se (vStep c vr se S) := by
  have T := vStep_I (vr := vr) (se := se) hI hc h
  have a : vGo c vr se (3999 + 1) S = vGo c vr se 3999 (vStep c vr se S) := vGo_s h
  have b := vGo_m (d := 1) (vGo_z (vr := vr) (se := se) hc 3999 _ T.1 (by omega))
  show vGo c vr se (3999 + 1) S = vGo c vr se (3999 + 1) (vStep c vr se S)
  rw [a, b]
theorem vGo_I (hc : 0 ≤ c ∧ c ≤ 60) : ∀ (m : Nat) (S : VS), vI c wr S → vI c wr (vGo c vr se m S) ∧ vM c (vGo c vr se m S) ≤ vM c S ∧ (S.ck ≤ (vGo c vr se m S).ck ∧ (vGo c vr se m S).ck + vM c (vGo c vr se m S) ≤ S.ck + vM c S) ∧ ∀ j, S.fl j ≤ (vGo c vr se m S).fl j ∧ (vGo c vr se m S).fl j + vM c (vGo c vr se m S) ≤ S.fl j + vM c S
  | 0, S, hI => ⟨hI, Int.le_refl _, ⟨Int.le_refl _, Int.le_refl _⟩, fun _ => ⟨Int.le_refl _, Int.le_refl _⟩⟩
  | m + 1, S, hI => by
    by_cases e : S.Q = []
    · rw [vGo_e e]; exact ⟨hI, Int.le_refl _, ⟨Int.le_refl _, Int.le_refl _⟩, fun _ => ⟨Int.le_refl _, Int.le_refl _⟩⟩
    · rw [vGo_s e]
      obtain ⟨a1, a2, a3, a4⟩ := vStep_I (vr := vr) (se := se) hI hc e
      obtain ⟨b1, b2, b3, b4⟩ := vGo_I hc m _ a1
      exact ⟨b1, by omega, by omega, fun j => by have := a4 j; have := b4 j; omega⟩
theorem vG_I (hI : vI c wr S) (hc : 0 ≤ c ∧ c ≤ 60) (hM : vM c S ≤ 4000) : vI c wr (vG c vr se S) ∧ (vG c vr se S).Q = [] ∧ (S.ck ≤ (vG c vr se S).ck ∧ (vG c vr se S).ck ≤ S.ck + 4000) ∧ ∀ j, S.fl j ≤ (vG c vr se S).fl j ∧ (vG c vr se S).fl j ≤ S.fl j + 4000 := by
  have a := vGo_I (vr := vr) (se := se) hc 4000 S hI
  have b := vM_b (S := vGo c vr se 4000 S) hc
  exact ⟨a.1, vGo_z hc 4000 S hI (by omega), by show _ ∧ _; unfold vG; omega, fun j => by have := a.2.2.2 j; unfold vG; omega⟩
end
section
variable {rt rv re se wr q rg : Int → Int} {n c t k e qf : Int} {vr : Int → Int → Int} {S : VS}
theorem vtQ_hd {x : Int} {L : List Int} (h : vtQ q qf (x :: L)) : q qf = x ∧ vtQ q (qf + 1) L := by
  refine ⟨?_, fun i hi => ?_⟩
  · have := h 0 (by simp)
    rw [show qf + ((0 : Nat) : Int) = qf by omega] at this
    exact this
  · have := h (i + 1) (by simp; omega)
    rw [show qf + ((i + 1 : Nat) : Int) = qf + 1 + i by omega] at this
    exact this
theorem T48_goOn {post : (Int → Int) → (Int → Int) → (Int → Int) → (Int → Int) → (Int → Int) → (Int → Int) → Int → (Int → Int) → (Int → Int) → Int → Int → (Int → Int) → Int → (Int → Int) → Prop} (hR : vtR rt rv re n vr) (hn : 0 ≤ n ∧ n ≤ 13000) (hc : 0 ≤ c ∧ c ≤ 60) (hI : vI c wr S) (hM : vM c S ≤ 3700) (hck : S.ck ≤ 900000) (hfl : ∀ j, 0 ≤ j → j < 200 → 0 ≤ S.fl j ∧ S.fl j ≤ 900000) (hq : vtQ q 0 S.Q) (hr : vtQ rg 0 S.R)
    (hp : ∀ q' rg', vtQ rg' 0 (vG c vr se S).R → post (vG c vr se S).st (vG c vr se S).ws (vG c vr se S).wf (vG c vr se S).wt (vG c vr se S).wl (vG c vr se S).si (vG c vr se S).ck (vG c vr se S).ho q' 0 0 rg' (vG c vr se S).R.length (vG c vr se S).fl) :
    wpX48_goOn post rt rv n se S.st S.ws S.wf S.wt S.wl S.si S.ck c S.ho q 0 S.Q.length rg S.R.length S.fl := by
  unfold wpX48_goOn
  obtain ⟨G, eG⟩ : ∃ G, G = vG c vr se S := ⟨_, rfl⟩
  rw [← eG] at hp
  have key := wl4 (fun m (S : VS) (q : Int → Int) (qf : Int) (rg : Int → Int) => wX48_goOn_0 (fun st ws wf wt wl si ck ho q _ _ rg rs fl => post st ws wf wt wl si ck ho q 0 0 rg rs fl) rt rv n se c m S.st S.ws S.wf S.wt S.wl S.si S.ck S.ho q qf (qf + S.Q.length) rg S.R.length S.fl)
    (fun S q qf rg => vI c wr S ∧ (0 ≤ qf ∧ qf + vM c S ≤ 3700) ∧ S.ck + vM c S ≤ 904000 ∧ (∀ j, 0 ≤ j → j < 200 → 0 ≤ S.fl j ∧ S.fl j + vM c S ≤ 904000) ∧ vtQ q qf S.Q ∧ vtQ rg 0 S.R ∧ G = vG c vr se S) (fun S _ _ _ => (vM c S).toNat) ?_ S q 0 rg ⟨hI, by omega, by omega, fun j a b => by have := hfl j a b; omega, hq, hr, eG⟩
  · rw [Int.zero_add] at key; exact key
  clear hr hq hfl hck hM hI eG
  rintro S q qf rg ⟨hI, hq1, hck, hfl, hq, hr, eG⟩ m ih
  have Mb := vM_b (S := S) hc
  have c0 := hI.1.2.2.2.2.1
  rw [wX48_goOn_0]
  refine ⟨fun z => ?_, fun z => ⟨by omega, fun x e1 => ⟨by omega, fun _ e2 => ?_⟩⟩⟩
  · have l : S.Q = [] := List.length_eq_zero_iff.mp (by omega)
    rw [vG_e l] at eG
    rw [eG] at hp
    exact hp q rg hr
  have nQ : ¬ S.Q = [] := fun h => by rw [h] at z; simp at z
  obtain ⟨y, L, eQ⟩ : ∃ y L, S.Q = y :: L := by
    cases h : S.Q with
    | nil => exact absurd h nQ
    | cons y L => exact ⟨y, L, rfl⟩
  have hd : S.Q.headD 0 = y := by rw [eQ]; rfl
  rw [eQ] at hq
  obtain ⟨q0, q1⟩ := vtQ_hd hq
  rw [q0] at e1
  subst e1
  rw [e2]
  have hb := hI.1.2.2.2.1 x (by rw [eQ]; exact List.mem_cons_self)
  have eL : qf + (S.Q.length : Int) = qf + 1 + S.pop.Q.length := by
    show qf + (S.Q.length : Int) = qf + 1 + (S.Q.tail.length : Int)
    rw [eQ, List.tail_cons, List.length_cons]; omega
  have pQ : S.pop.Q = L := by show S.Q.tail = L; rw [eQ]; rfl
  obtain ⟨a1, a2, a3, a4⟩ := vStep_I (vr := vr) (se := se) hI hc nQ
  have gs := vG_s (vr := vr) (se := se) hI hc nQ (by omega)
  rw [eL]
  refine ⟨by omega, fun e3 => ?_, fun e3 => ?_⟩
  · have eS : vStep c vr se S = vWrite c vr se x (S.wt x) (S.wl x) S.pop := by unfold vStep; rw [hd, if_pos e3]
    have w := hI.1.2.2.1 x hb.1.1 hb.1.2 e3
    have hl : (S.pop.Q.length : Int) + 1 ≤ vM c S := by omega
    refine T48_write (S := S.pop) (qf := qf + 1) hR hn hc hb.1 w.1.1 w.1.2 hI.1.1 ⟨c0, by show S.ck ≤ 1000000; omega⟩ ?_ (by have := hfl _ w.1.1.1 w.1.1.2; show 0 ≤ S.fl _ ∧ S.fl _ ≤ 1000000; omega) ⟨by omega, by omega⟩ (by rw [pQ]; exact q1) hr (fun q' rg' h1 h2 => ?_)
    · show S.ho (S.wt x) < c
      rcases hI.1.2.1 _ w.1.1.1 w.1.1.2 with h | h <;> omega
    · rw [← eS] at h1 h2 ⊢
      exact ih (vStep c vr se S) q' (qf + 1) rg' ⟨a1, by omega, by omega, fun j a b => by have := a4 j; have := hfl j a b; omega, h1, h2, by rw [← gs]; exact eG⟩ (by omega)
  · have eS : vStep c vr se S = S.pop := by unfold vStep; rw [hd, if_neg e3]
    rw [eS] at a1 a2 a3 a4 gs
    exact ih S.pop q (qf + 1) rg ⟨a1, by omega, by omega, fun j a b => by have := a4 j; have := hfl j a b; omega, by rw [pQ]; exact q1, hr, by rw [← gs]; exact eG⟩ (by omega)
end

/-! VersionTrans, the reference (X48): put, abort -/
/-- what a put answers -/
def vPu (s : Int) : Int := if s = 0 then 1 else if s = 1 then 0 else if s = 2 then -1 else -2
section
variable {rt rv re se wr q rg : Int → Int} {n c t k e x : Int} {vr : Int → Int → Int} {S : VS}
theorem T48_there {post : Int → Prop} {v : Int} (hR : vtR rt rv re n vr) (hn : 0 ≤ n ∧ n ≤ 13000) (h1 : vtTh vr k v → post 1) (h0 : ¬ vtTh vr k v → post 0) : wpX48_isThere post rt rv re n k v := by
  unfold wpX48_isThere
  refine T48_rowOf hR hn (fun w => ⟨fun _ => h0 ?_, fun q => absurd (by decide) q⟩) (fun i i0 i1 ek ev w => ⟨fun q => by omega, fun _ => ⟨by omega, fun e => h0 ?_, fun e => h1 ⟨rv i, ev, ?_, w⟩⟩⟩)
  · rintro ⟨u, hu, e2, -⟩
    have := w u hu; omega
  · rintro ⟨u, hu, e2, w2⟩
    have R := (hR.1 i i0 i1).2
    rw [ek, if_pos e] at R
    by_cases h : u = rv i
    · subst h; omega
    · by_cases h2 : u < rv i
      · have := w2 (rv i) h2 ev; omega
      · have := w u (by omega) hu; omega
  · have R := (hR.1 i i0 i1).2
    rw [ek, if_neg e] at R
    exact R
theorem T48_write0 {post : (Int → Int) → (Int → Int) → (Int → Int) → (Int → Int) → (Int → Int) → (Int → Int) → Int → (Int → Int) → (Int → Int) → Int → (Int → Int) → Int → (Int → Int) → Prop} (hR : vtR rt rv re n vr) (hn : 0 ≤ n ∧ n ≤ 13000) (hc : 0 ≤ c ∧ c ≤ 60) (ht : 0 ≤ t ∧ t < c) (hk : 0 ≤ k ∧ k < 200) (he : e = 0 ∨ e = 1) (hS : vtSi S.st S.wf S.si c S.ck) (hck : 0 ≤ S.ck ∧ S.ck ≤ 1000000) (hho : S.ho k < c) (hfl : 0 ≤ S.fl k ∧ S.fl k ≤ 1000000) (hQ : S.Q = []) (hr : vtQ rg 0 S.R)
    (hp : ∀ q' rg', vtQ q' 0 (vWrite c vr se t k e S).Q → vtQ rg' 0 (vWrite c vr se t k e S).R → post (vWrite c vr se t k e S).st (vWrite c vr se t k e S).ws (vWrite c vr se t k e S).wf (vWrite c vr se t k e S).wt (vWrite c vr se t k e S).wl (vWrite c vr se t k e S).si (vWrite c vr se t k e S).ck (vWrite c vr se t k e S).ho q' (vWrite c vr se t k e S).Q.length rg' (vWrite c vr se t k e S).R.length (vWrite c vr se t k e S).fl) :
    wpX48_write post rt rv n se S.st S.ws S.wf S.wt S.wl S.si S.ck c S.ho q 0 rg S.R.length S.fl t k e := by
  have l0 : (0 : Int) + (S.Q.length : Int) = 0 := by rw [hQ]; rfl
  have W := T48_write (post := post) (qf := 0) (q := q) (rg := rg) hR hn hc ht hk he hS hck hho hfl ⟨by decide, by omega⟩ (by rw [hQ]; exact fun i hi => absurd hi (Nat.not_lt_zero _)) hr (fun q' rg' a b => by rw [Int.zero_add]; exact hp q' rg' a b)
  rw [l0] at W
  exact W
theorem T48_endV {post : (Int → Int) → (Int → Int) → (Int → Int) → Int → Prop} (hc : 0 ≤ c ∧ c ≤ 60) (hS : vtSi S.st S.wf S.si c S.ck) (hx : x ≠ 1) (ht : 0 ≤ t ∧ t < c) (hQ : S.Q = []) (hp : ∀ q', vtQ q' 0 (vEnd c t x S).Q → post (vEnd c t x S).st (vEnd c t x S).ho q' (vEnd c t x S).Q.length) : wpX48_end post S.st S.wf S.si c S.ho q 0 t x := by
  refine T48_endS hc hS hx ⟨ht.1, by omega⟩ ⟨by decide, by decide⟩ (fun L q' hL hq hl lc => ?_)
  have eQ : (vEnd c t x S).Q = L := by
    show S.Q ++ vtL (updI S.st t x) S.wf S.si c t = L
    rw [hQ, vtL_eq hL]; rfl
  have h := hp q' (by rw [eQ]; exact hq)
  rw [eQ] at h
  rw [Int.zero_add]
  exact h
/-- one ends, and all that waited for it is tried again -/
theorem T48_eg {post : (Int → Int) → (Int → Int) → (Int → Int) → (Int → Int) → (Int → Int) → (Int → Int) → Int → (Int → Int) → (Int → Int) → Int → Int → (Int → Int) → Int → (Int → Int) → Prop} (hR : vtR rt rv re n vr) (hn : 0 ≤ n ∧ n ≤ 13000) (hc : 0 ≤ c ∧ c ≤ 60) (hI : vI c wr S) (hQ : S.Q = []) (hck : S.ck ≤ 890000) (hfl : ∀ j, 0 ≤ j → j < 200 → 0 ≤ S.fl j ∧ S.fl j ≤ 890000) (hr : vtQ rg 0 S.R) (ht : 0 ≤ t ∧ t < c) (hx : 3 ≤ x ∧ x ≤ 4) (hs : S.st t < 3)
    (hp : ∀ V, V = vG c vr se (vEnd c t x S) → ∀ q' rg', vtQ rg' 0 V.R → post V.st V.ws V.wf V.wt V.wl V.si V.ck V.ho q' 0 0 rg' V.R.length V.fl) :
    wpX48_end (fun st' ho' q' qt' => wpX48_goOn post rt rv n se st' S.ws S.wf S.wt S.wl S.si S.ck c ho' q' 0 qt' rg S.R.length S.fl) S.st S.wf S.si c S.ho q 0 t x := by
  refine T48_endV hc hI.1.1 (by omega) ht hQ (fun q' hq => ?_)
  obtain ⟨E1, E2⟩ := vEnd_I hI hc ht hx hs
  have Mb := vM_b (S := S) hc
  have l0 : (S.Q.length : Int) = 0 := by rw [hQ]; rfl
  exact T48_goOn (S := vEnd c t x S) hR hn hc E1 (by omega) (by show S.ck ≤ 900000; omega) (fun j a b => by have := hfl j a b; show 0 ≤ S.fl j ∧ S.fl j ≤ 900000; omega) hq hr (fun q'' rg'' h => hp _ rfl q'' rg'' h)
theorem T48_put {post : Int → (Int → Int) → (Int → Int) → (Int → Int) → (Int → Int) → (Int → Int) → (Int → Int) → Int → (Int → Int) → (Int → Int) → Int → Int → (Int → Int) → Int → (Int → Int) → Int → Prop} (hR : vtR rt rv re n vr) (hn : 0 ≤ n ∧ n ≤ 13000) (hc : 0 ≤ c ∧ c ≤ 60) (hI : vI c wr S) (hQ : S.Q = []) (hck : S.ck ≤ 890000) (hfl : ∀ j, 0 ≤ j → j < 200 → 0 ≤ S.fl j ∧ S.fl j ≤ 890000) (hr : vtQ rg 0 S.R) (he : e = 0 ∨ e = 1)
    (h1 : ¬ ((0 ≤ t ∧ t < c) ∧ 0 ≤ k ∧ k < 200) → post 0 S.st S.ws S.wf S.wt S.wl S.si S.ck S.ho q 0 0 rg S.R.length S.fl 1)
    (h2 : (0 ≤ t ∧ t < c) ∧ 0 ≤ k ∧ k < 200 → ¬ (S.st t = 0 ∧ ¬ wr t = 0) → post 0 S.st S.ws S.wf S.wt S.wl S.si S.ck S.ho q 0 0 rg S.R.length S.fl 2)
    (h0 : (0 ≤ t ∧ t < c) ∧ 0 ≤ k ∧ k < 200 → S.st t = 0 ∧ ¬ wr t = 0 → ∀ V, V = vG c vr se (vWrite c vr se t k e S) → ∀ q' rg', vtQ rg' 0 V.R → post (vPu (V.st t)) V.st V.ws V.wf V.wt V.wl V.si V.ck V.ho q' 0 0 rg' V.R.length V.fl 0) :
    wpX48_put post rt rv n wr se S.st S.ws S.wf S.wt S.wl S.si S.ck c S.ho q 0 0 rg S.R.length S.fl t k e := by
  have bad : ¬ ((0 ≤ t ∧ t < c) ∧ 0 ≤ k ∧ k < 200) → wX48_put_20 post t k e 0 rt rv n wr se S.st S.ws S.wf S.wt S.wl S.si S.ck c S.ho q 0 0 rg S.R.length S.fl := fun w => by
    unfold wX48_put_20 wX48_put_43
    exact ⟨fun _ => T48_fails (fun _ => ⟨fun q => absurd q (by decide), fun _ => h1 w⟩) (fun q => absurd rfl q) (fun q => absurd rfl q), fun q => absurd rfl q⟩
  unfold wpX48_put
  refine T48_isTr (fun ht => ⟨fun q => absurd q (by decide), fun _ => T48_isTp (fun tp => ⟨fun q => absurd q (by decide), fun _ => ?_⟩) (fun tp => ⟨fun _ => bad (fun w => tp w.2), fun q => absurd rfl q⟩)⟩) (fun ht => ⟨fun _ => bad (fun w => ht w.1), fun q => absurd rfl q⟩)
  have w : (0 ≤ t ∧ t < c) ∧ 0 ≤ k ∧ k < 200 := ⟨ht, tp⟩
  have b43 : ¬ (S.st t = 0 ∧ ¬ wr t = 0) → wX48_put_43 post t k e 1 0 rt rv n se S.st S.ws S.wf S.wt S.wl S.si S.ck c S.ho q 0 0 rg S.R.length S.fl := fun u => by
    unfold wX48_put_43
    exact T48_fails (fun q => absurd q (by decide)) (fun _ _ => ⟨fun q => absurd q (by decide), fun _ => h2 w u⟩) (fun _ q => absurd rfl q)
  unfold wX48_put_20 wpX48_canWrite
  refine ⟨fun q => absurd q (by decide), fun _ => ⟨by omega, fun e3 => ⟨fun e4 => ⟨fun _ => b43 (fun u => u.2 e4), fun q => absurd rfl q⟩, fun e4 => ⟨fun q => absurd q (by decide), fun _ => ?_⟩⟩, fun e3 => ⟨fun _ => b43 (fun u => e3 u.1), fun q => absurd rfl q⟩⟩⟩
  unfold wX48_put_43
  refine T48_fails (fun q => absurd q (by decide)) (fun _ q => absurd q (by decide)) (fun _ _ => ⟨fun _ => ?_, fun q => absurd rfl q⟩)
  obtain ⟨a1, a2, a3, a4⟩ := vWrite_I (vr := vr) (se := se) (k := k) (e := e) hI hc ht e4 (by omega) tp he
  have Mb := vM_b (S := S) hc
  have l0 : (S.Q.length : Int) = 0 := by rw [hQ]; rfl
  have c0 := hI.1.2.2.2.2.1
  have fk := hfl k tp.1 tp.2
  refine T48_write0 hR hn hc ht tp he hI.1.1 ⟨c0, by omega⟩ (by rcases hI.1.2.1 k tp.1 tp.2 with h | h <;> omega) ⟨fk.1, by omega⟩ hQ hr (fun q' rg' hq hr' => ?_)
  refine T48_goOn (S := vWrite c vr se t k e S) hR hn hc a1 (by omega) (by omega) (fun j a b => by have := hfl j a b; have := a4 j; omega) hq hr' (fun q'' rg'' hr'' => ⟨by omega, fun s es => ?_⟩)
  have H := h0 w ⟨e3, e4⟩ _ rfl q'' rg'' hr''
  rw [← es] at H
  refine ⟨fun z => ?_, fun z => ⟨fun z1 => ?_, fun z1 => ⟨fun z2 => ?_, fun z2 => ?_⟩⟩⟩
  · rw [show vPu s = 1 by unfold vPu; rw [if_pos z]] at H; exact H
  · rw [show vPu s = 0 by unfold vPu; rw [if_neg z, if_pos z1]] at H; exact H
  · rw [show vPu s = -1 by unfold vPu; rw [if_neg z, if_neg z1, if_pos z2]] at H; exact H
  · rw [show vPu s = -2 by unfold vPu; rw [if_neg z, if_neg z1, if_neg z2]] at H; exact H
theorem T48_abort {post : Int → (Int → Int) → (Int → Int) → (Int → Int) → (Int → Int) → (Int → Int) → (Int → Int) → Int → (Int → Int) → (Int → Int) → Int → Int → (Int → Int) → Int → (Int → Int) → Int → Prop} (hR : vtR rt rv re n vr) (hn : 0 ≤ n ∧ n ≤ 13000) (hc : 0 ≤ c ∧ c ≤ 60) (hI : vI c wr S) (hQ : S.Q = []) (hck : S.ck ≤ 890000) (hfl : ∀ j, 0 ≤ j → j < 200 → 0 ≤ S.fl j ∧ S.fl j ≤ 890000) (hr : vtQ rg 0 S.R)
    (h1 : ¬ (0 ≤ t ∧ t < c) → post 0 S.st S.ws S.wf S.wt S.wl S.si S.ck S.ho q 0 0 rg S.R.length S.fl 1)
    (h2 : 0 ≤ t ∧ t < c → ¬ S.st t < 3 → post 0 S.st S.ws S.wf S.wt S.wl S.si S.ck S.ho q 0 0 rg S.R.length S.fl 2)
    (h0 : 0 ≤ t ∧ t < c → S.st t < 3 → ∀ V, V = vG c vr se (vEnd c t 4 S) → ∀ q' rg', vtQ rg' 0 V.R → post (vtWs 200 V.ws t) V.st V.ws V.wf V.wt V.wl V.si V.ck V.ho q' 0 0 rg' V.R.length V.fl 0) :
    wpX48_abort post rt rv n se S.st S.ws S.wf S.wt S.wl S.si S.ck c S.ho q 0 0 rg S.R.length S.fl t := by
  unfold wpX48_abort
  refine T48_isTr (fun ht => ⟨fun q => absurd q (by decide), fun _ => ?_⟩) (fun ht => ⟨fun _ => ?_, fun q => absurd rfl q⟩)
  · unfold wpX48_isLive
    refine ⟨by omega, fun e => ⟨fun _ => ?_, fun q => absurd rfl q⟩, fun e => ⟨fun q => absurd q (by decide), fun _ => ?_⟩⟩
    · unfold wX48_abort_24
      exact T48_fails (fun q => absurd q (by decide)) (fun _ _ => ⟨fun q => absurd q (by decide), fun _ => h2 ht (by omega)⟩) (fun _ q => absurd rfl q)
    · refine T48_fails (fun q => absurd q (by decide)) (fun _ q => absurd q (by decide)) (fun _ _ => ⟨fun _ => ?_, fun q => absurd rfl q⟩)
      exact T48_eg hR hn hc hI hQ hck hfl hr ht (by decide) (by omega) (fun V eV q' rg' h => T48_writes ⟨ht.1, by omega⟩ (h0 ht (by omega) V eV q' rg' h))
  · unfold wX48_abort_24
    exact T48_fails (fun _ => ⟨fun q => absurd q (by decide), fun _ => h1 ht⟩) (fun q => absurd rfl q) (fun q => absurd rfl q)
end

/-! VersionTrans, the reference (X48): commit -/
/-- a write that changes what is there -/
def vMt (vr : Int → Int → Int) (ws se : Int → Int) (t k : Int) : Prop := ¬ ws (200 * t + k) = 0 ∧ ¬ (ws (200 * t + k) = 2 ↔ vtTh vr k (se t))
/-- rows behind a commit (of the triples below N) -/
noncomputable def vCm (vr : Int → Int → Int) (ws se : Int → Int) (t la N : Int) : Int → Int → Int := fun k v => pif ((0 ≤ k ∧ k < N) ∧ v = la + 1 ∧ vMt vr ws se t k) (ws (200 * t + k)) (vr k v)
/-- whether one of the triples below N changes -/
def vMa (vr : Int → Int → Int) (ws se : Int → Int) (t N : Int) : Prop := ∃ k, (0 ≤ k ∧ k < N) ∧ vMt vr ws se t k
theorem vtTh_c {vr vr' : Int → Int → Int} {k v : Int} (h : ∀ u, u ≤ v → vr' k u = vr k u) : vtTh vr' k v ↔ vtTh vr k v := by
  constructor
  · rintro ⟨u, a, b, d⟩
    exact ⟨u, a, by rw [← h u a]; exact b, fun w x y => by rw [← h w y]; exact d w x y⟩
  · rintro ⟨u, a, b, d⟩
    exact ⟨u, a, by rw [h u a]; exact b, fun w x y => by rw [h w y]; exact d w x y⟩
section
variable {rt rv re se wr q rg pn rf no ws : Int → Int} {n c t k e x la : Int} {vr nt : Int → Int → Int} {S : VS}
theorem vCm_0 : vCm vr ws se t la 0 = vr := by
  funext k v
  unfold vCm
  exact pif_f (fun h => by have := h.1; omega)
theorem vCm_lo {N u : Int} (h : u ≤ la) : vCm vr ws se t la N k u = vr k u := pif_f (fun w => by have := w.2.1; omega)
theorem vCm_n {N : Int} (h : ¬ vMt vr ws se t N) : vCm vr ws se t la (N + 1) = vCm vr ws se t la N := by
  funext k v
  unfold vCm
  refine pif_c ⟨fun w => ⟨⟨w.1.1, ?_⟩, w.2⟩, fun w => ⟨⟨w.1.1, by have := w.1; omega⟩, w.2⟩⟩
  by_cases e : k = N
  · subst e; exact absurd w.2.2 h
  · have := w.1; omega
theorem vCm_y {N : Int} (h : vMt vr ws se t N) (h0 : 0 ≤ N) : vCm vr ws se t la (N + 1) N (la + 1) = ws (200 * t + N) := by
  unfold vCm
  exact pif_t ⟨⟨h0, by omega⟩, rfl, h⟩
theorem vCm_o {N v : Int} (h : ¬ (k = N ∧ v = la + 1)) : vCm vr ws se t la (N + 1) k v = vCm vr ws se t la N k v := by
  unfold vCm
  refine pif_c ⟨fun w => ⟨⟨w.1.1, ?_⟩, w.2⟩, fun w => ⟨⟨w.1.1, by have := w.1; omega⟩, w.2⟩⟩
  by_cases e : k = N
  · exact absurd ⟨e, w.2.1⟩ h
  · have := w.1; omega
theorem vMa_s {N : Int} (h0 : 0 ≤ N) : vMa vr ws se t (N + 1) ↔ vMa vr ws se t N ∨ vMt vr ws se t N := by
  constructor
  · rintro ⟨k, a, b⟩
    by_cases e : k = N
    · subst e; exact Or.inr b
    · exact Or.inl ⟨k, by omega, b⟩
  · rintro (⟨k, a, b⟩ | b)
    · exact ⟨k, by omega, b⟩
    · exact ⟨N, by omega, b⟩
theorem vtN_le {V : Int → Int → Int} : 0 ≤ vtN 12800 V ∧ vtN 12800 V ≤ 13000 := ⟨vtN_b.1, Int.le_trans vtN_b.2 (by decide)⟩
theorem T48_c114 {K : Int → (Int → Int) → (Int → Int) → (Int → Int) → Int → Prop} (hW : vtW rt rv re n vr) (ht : 0 ≤ t ∧ t < 60) (hw : ∀ x, 0 ≤ x → x < 12000 → 0 ≤ ws x ∧ ws x ≤ 2) (hse : se t ≤ la) (hla : 0 ≤ la ∧ la < 62) (hv : ∀ k v, ¬ vr k v = 0 → v ≤ la)
    (hp : ∀ rt' rv' re', vtW rt' rv' re' (vtN 12800 (vCm vr ws se t la 200)) (vCm vr ws se t la 200) → K (pif (vMa vr ws se t 200) (la + 1) (se t)) rt' rv' re' (vtN 12800 (vCm vr ws se t la 200))) :
    ∃ fu, wX48_commit_114 K t (la + 1) se ws fu (se t) 0 rt rv re n := by
  refine wloop (fun m (s : Int × Int × (Int → Int) × (Int → Int) × (Int → Int) × Int) => wX48_commit_114 K t (la + 1) se ws m s.1 s.2.1 s.2.2.1 s.2.2.2.1 s.2.2.2.2.1 s.2.2.2.2.2)
    (fun s => (0 ≤ s.2.1 ∧ s.2.1 ≤ 200) ∧ s.1 = pif (vMa vr ws se t s.2.1) (la + 1) (se t) ∧ vtW s.2.2.1 s.2.2.2.1 s.2.2.2.2.1 s.2.2.2.2.2 (vCm vr ws se t la s.2.1)) (fun s => (200 - s.2.1).toNat) ?_ (se t, 0, rt, rv, re, n) ⟨by dsimp only; omega, ?_, ?_⟩
  · rintro ⟨x4, i, a, b, d, m0⟩ ⟨hi, hx, W⟩ m ih
    dsimp only at hi hx W ⊢
    have nb := vtN_b (N := 12800) (vr := vCm vr ws se t la i)
    have nn := W.2.2
    have ih' : ∀ (x' i' : Int) (a' b' d' : Int → Int) (n' : Int), (0 ≤ i' ∧ i' ≤ 200) → x' = pif (vMa vr ws se t i') (la + 1) (se t) → vtW a' b' d' n' (vCm vr ws se t la i') → i < i' → wX48_commit_114 K t (la + 1) se ws m x' i' a' b' d' n' := fun x' i' a' b' d' n' h1 h2 h3 h4 => ih (x', i', a', b', d', n') ⟨h1, h2, h3⟩ (by dsimp only; omega)
    rw [wX48_commit_114]
    dsimp only
    have th : vtTh (vCm vr ws se t la i) i (se t) ↔ vtTh vr i (se t) := vtTh_c (fun u hu => vCm_lo (by omega))
    have go : ∀ y0 : Int, ¬ i ≥ 200 → (y0 = 1 ∨ y0 = 0) → (y0 = 1 ↔ ws (200 * t + i) = 2) → ¬ ws (200 * t + i) = 0 → wX48_commit_153 (wX48_commit_114 K t (la + 1) se ws m) t x4 (la + 1) i (ws (200 * t + i)) y0 a b d m0 se := fun y0 hi2 hy hy2 hw0 => by
      have wb := hw (200 * t + i) (by omega) (by omega)
      have skip : ¬ vMt vr ws se t i → wX48_commit_114 K t (la + 1) se ws m x4 (i + 1) a b d m0 := fun hm => by
        refine ih' _ _ _ _ _ _ (by omega) ?_ (by rw [vCm_n hm]; exact W) (by omega)
        rw [hx]
        exact pif_c ⟨fun w => (vMa_s hi.1).mpr (Or.inl w), fun w => ((vMa_s hi.1).mp w).resolve_right hm⟩
      have add : vMt vr ws se t i → ∀ e0 : Int, (e0 = 0 ∨ e0 = 1) → ws (200 * t + i) = (if e0 = 0 then 1 else 2) → wX48_commit_114 K t (la + 1) se ws m (la + 1) (i + 1) (updI a m0 i) (updI b m0 (la + 1)) (updI d m0 e0) (m0 + 1) := fun hm e0 he0 ee => by
        refine ih' _ _ _ _ _ _ (by omega) (by rw [pif_t ((vMa_s hi.1).mpr (Or.inr hm))]) ?_ (by omega)
        refine vtW_add W (by omega) (by omega) (by omega) he0 ?_ (by rw [vCm_y hm hi.1]; exact ee) (fun k v h => vCm_o h)
        have : vCm vr ws se t la i i (la + 1) = vr i (la + 1) := pif_f (fun w => by have := w.1; omega)
        rw [this]
        by_cases z : vr i (la + 1) = 0
        · exact z
        · have := hv _ _ z; omega
      unfold wX48_commit_153
      refine ⟨ht, T48_there W.1 ⟨by omega, by omega⟩ (fun yes => ?_) (fun no => ?_)⟩
      · refine ⟨fun e => ⟨by omega, fun _ e1 => ?_⟩, fun e => ⟨by omega, fun _ e1 _ e2 => ⟨fun e3 => ?_, fun e3 _ e4 => ⟨by omega, fun _ e5 => ⟨by omega, fun _ e6 => ?_⟩⟩⟩⟩⟩
        · rw [e1]
          exact skip (fun hm => hm.2 ⟨fun _ => th.mp yes, fun _ => hy2.mp e⟩)
        · exact absurd (hy2.mpr e3) e
        · rw [e1, e2, e4, e5, e6]
          exact add ⟨hw0, fun w => e3 (w.mpr (th.mp yes))⟩ 0 (Or.inl rfl) (by rw [if_pos rfl]; omega)
      · refine ⟨fun e => ⟨by omega, fun _ e1 => ?_⟩, fun e => ⟨by omega, fun _ e1 _ e2 => ⟨fun e3 _ e4 => ⟨by omega, fun _ e5 => ⟨by omega, fun _ e6 => ?_⟩⟩, fun e3 => ?_⟩⟩⟩
        · rw [e1]
          exact skip (fun hm => hm.2 ⟨fun w => by have := hy2.mpr w; omega, fun w => absurd (th.mpr w) no⟩)
        · rw [e1, e2, e4, e5, e6]
          exact add ⟨hw0, fun w => no (th.mpr (w.mp e3))⟩ 1 (Or.inr rfl) (by rw [if_neg (by decide)]; omega)
        · exact absurd (hy.resolve_right e) (fun w => e3 (hy2.mp w))
    refine ⟨fun z => ?_, fun z => ⟨by omega, fun o eo => ⟨fun z0 => ⟨by omega, fun _ e1 => ?_⟩, fun z0 => ⟨fun z2 => ?_, fun z2 => ?_⟩⟩⟩⟩
    · have ei : i = 200 := by omega
      subst ei
      rw [hx, nn]
      rw [nn] at W
      exact hp a b d W
    · rw [e1]
      have hm : ¬ vMt vr ws se t i := fun hm => hm.1 (by omega)
      refine ih' _ _ _ _ _ _ (by omega) ?_ (by rw [vCm_n hm]; exact W) (by omega)
      rw [hx]
      exact pif_c ⟨fun w => (vMa_s hi.1).mpr (Or.inl w), fun w => ((vMa_s hi.1).mp w).resolve_right hm⟩
    · rw [eo] at z0 z2 ⊢
      exact go 1 (by omega) (Or.inl rfl) ⟨fun _ => z2, fun _ => rfl⟩ z0
    · rw [eo] at z0 z2 ⊢
      exact go 0 (by omega) (Or.inr rfl) ⟨fun w => absurd w (by decide), fun w => absurd w z2⟩ z0
  · dsimp only
    exact (pif_f (fun ⟨k, a, _⟩ => by omega)).symm
  · dsimp only
    rw [vCm_0]; exact hW
theorem T48_commit {post : Int → (Int → Int) → (Int → Int) → (Int → Int) → Int → Int → (Int → Int) → (Int → Int) → (Int → Int) → (Int → Int) → (Int → Int) → (Int → Int) → Int → (Int → Int) → (Int → Int) → Int → Int → (Int → Int) → Int → (Int → Int) → (Int → Int) → Int → Prop} (hW : vtW rt rv re n vr) (hc : 0 ≤ c ∧ c ≤ 60) (hI : vI c wr S) (hQ : S.Q = []) (hck : S.ck ≤ 890000) (hfl : ∀ j, 0 ≤ j → j < 200 → 0 ≤ S.fl j ∧ S.fl j ≤ 890000) (hrf : ∀ j, 0 ≤ j → j < 4 → 0 ≤ rf j ∧ rf j ≤ 890000) (hr : vtQ rg 0 S.R) (hN : vtNt no c nt) (hw : ∀ x, 0 ≤ x → x < 12000 → 0 ≤ S.ws x ∧ S.ws x ≤ 2) (hse : ∀ t, 0 ≤ t → t < c → se t ≤ la) (hla : 0 ≤ la ∧ la < 62) (hv : ∀ k v, ¬ vr k v = 0 → v ≤ la)
    (h1 : ¬ (0 ≤ t ∧ t < c) → post 0 rt rv re n la S.st S.ws S.wf S.wt S.wl S.si S.ck S.ho q 0 0 rg S.R.length S.fl rf 1)
    (h2 : 0 ≤ t ∧ t < c → ¬ (S.st t = 0 ∨ S.st t = 2) → post 0 rt rv re n la S.st S.ws S.wf S.wt S.wl S.si S.ck S.ho q 0 0 rg S.R.length S.fl rf 2)
    (h3 : 0 ≤ t ∧ t < c → S.st t = 2 → ∀ V, V = vG c vr se (vEnd c t 4 S) → ∀ q' rg', vtQ rg' 0 V.R → post 0 rt rv re n la V.st V.ws V.wf V.wt V.wl V.si V.ck V.ho q' 0 0 rg' V.R.length V.fl rf 0)
    (h4 : 0 ≤ t ∧ t < c → S.st t = 0 → ∀ g, 0 ≤ g → g < 4 → ¬ nt t g = 0 → vtCg vr (se t) g → (∀ h, 0 ≤ h → h < g → ¬ nt t h = 0 → ¬ vtCg vr (se t) h) → ∀ V, V = vG c vr se (vEnd c t 4 S) → ∀ q' rg', vtQ rg' 0 V.R → post 0 rt rv re n la V.st V.ws V.wf V.wt V.wl V.si V.ck V.ho q' 0 0 rg' V.R.length V.fl (updI rf g (rf g + 1)) 0)
    (h5 : 0 ≤ t ∧ t < c → S.st t = 0 → (∀ g, 0 ≤ g → g < 4 → ¬ nt t g = 0 → ¬ vtCg vr (se t) g) → ∀ V, V = vG c (vCm vr S.ws se t la 200) se (vEnd c t 3 S) → ∀ rt' rv' re' q' rg', vtW rt' rv' re' (vtN 12800 (vCm vr S.ws se t la 200)) (vCm vr S.ws se t la 200) → vtQ rg' 0 V.R → post (pif (vMa vr S.ws se t 200) (la + 1) (se t)) rt' rv' re' (vtN 12800 (vCm vr S.ws se t la 200)) (pif (vMa vr S.ws se t 200) (la + 1) la) V.st V.ws V.wf V.wt V.wl V.si V.ck V.ho q' 0 0 rg' V.R.length V.fl rf 0) :
    wpX48_commit post rt rv re n la se S.st no S.ws S.wf S.wt S.wl S.si S.ck c S.ho q 0 0 rg S.R.length S.fl rf t := by
  have nb := vtN_b (N := 12800) (vr := vr)
  have nn := hW.2.2
  have hn : 0 ≤ n ∧ n ≤ 13000 := by omega
  have bad : ∀ y : Int, (y = 0 ∧ ¬ (0 ≤ t ∧ t < c)) ∨ (y = 1 ∧ (0 ≤ t ∧ t < c) ∧ ¬ (S.st t = 0 ∨ S.st t = 2)) → wX48_commit_35 post t y 0 rt rv re n la se S.st no S.ws S.wf S.wt S.wl S.si S.ck c S.ho q 0 0 rg S.R.length S.fl rf := fun y hy => by
    unfold wX48_commit_35
    rcases hy with ⟨rfl, w⟩ | ⟨rfl, w1, w2⟩
    · exact T48_fails (fun _ => ⟨fun q => absurd q (by decide), fun _ => h1 w⟩) (fun q => absurd rfl q) (fun q => absurd rfl q)
    · exact T48_fails (fun q => absurd q (by decide)) (fun _ _ => ⟨fun q => absurd q (by decide), fun _ => h2 w1 w2⟩) (fun _ q => absurd rfl q)
  unfold wpX48_commit
  refine T48_isTr (fun ht => ⟨fun q => absurd q (by decide), fun _ => ?_⟩) (fun ht => ⟨fun _ => bad 0 (Or.inl ⟨rfl, ht⟩), fun q => absurd rfl q⟩)
  have s07 := hI.1.2.2.2.2.2 t ht.1 ht.2
  unfold wpX48_isLive
  refine ⟨by omega, fun e => ⟨fun _ => bad 1 (Or.inr ⟨rfl, ht, by omega⟩), fun q => absurd rfl q⟩, fun e => ⟨fun q => absurd q (by decide), fun _ => ⟨by omega, fun e1 => bad 1 (Or.inr ⟨rfl, ht, by omega⟩), fun e1 => ?_⟩⟩⟩
  unfold wX48_commit_35
  refine T48_fails (fun q => absurd q (by decide)) (fun _ q => absurd q (by decide)) (fun _ _ => ⟨fun _ => ?_, fun q => absurd rfl q⟩)
  have c63 : ∀ g, (¬ S.st t = 2 → 0 ≤ g ∧ g < 4 ∧ ¬ nt t g = 0 ∧ vtCg vr (se t) g ∧ ∀ h, 0 ≤ h → h < g → ¬ nt t h = 0 → ¬ vtCg vr (se t) h) → wX48_commit_63 post t g rt rv re n la se S.st S.ws S.wf S.wt S.wl S.si S.ck c S.ho q 0 0 rg S.R.length S.fl rf 0 := fun g hg => by
    unfold wX48_commit_63
    refine ⟨by omega, fun e2 => ?_, fun e2 => ?_⟩
    · exact T48_eg hW.1 hn hc hI hQ hck hfl hr ht (by decide) (by omega) (h3 ht e2)
    · obtain ⟨g0, g4, g1, g2, g3⟩ := hg e2
      have := hrf g g0 g4
      refine ⟨⟨g0, g4⟩, by omega, fun _ e3 _ e4 => ?_⟩
      rw [e4, e3]
      exact T48_eg hW.1 hn hc hI hQ hck hfl hr ht (by decide) (by omega) (h4 ht (by omega) g g0 g4 g1 g2 g3)
  refine T48_changed hW.1 hn hN ht hc.2 (fun w => ⟨by omega, fun e2 => ?_, fun e2 => ⟨fun _ _ e3 => ?_, fun q => absurd (by decide) q⟩⟩) (fun g g0 g4 g1 g2 g3 => ⟨by omega, fun e2 => c63 g (fun q => absurd e2 q), fun e2 => ⟨fun q => by omega, fun _ => c63 g (fun _ => ⟨g0, g4, g1, g2, g3⟩)⟩⟩)
  · exact c63 (-1) (fun q => absurd e2 q)
  · rw [e3]
    refine ⟨by omega, fun _ e4 => ?_⟩
    rw [e4]
    have sl := hse t ht.1 ht.2
    refine T48_c114 hW (by omega) hw sl hla hv (fun rt' rv' re' W' => ?_)
    have hn' : 0 ≤ vtN 12800 (vCm vr S.ws se t la 200) ∧ vtN 12800 (vCm vr S.ws se t la 200) ≤ 13000 := vtN_le
    by_cases ma : vMa vr S.ws se t 200
    · rw [pif_t ma]
      refine ⟨fun _ => ?_, fun q => absurd rfl q⟩
      refine T48_eg W'.1 hn' hc hI hQ hck hfl hr ht (by decide) (by omega) (fun V eV q' rg' h => ?_)
      have H := h5 ht (by omega) w V eV rt' rv' re' q' rg' W' h
      rw [pif_t ma, pif_t ma] at H
      exact H
    · rw [pif_f ma]
      refine ⟨fun q => by omega, fun _ => ?_⟩
      refine T48_eg W'.1 hn' hc hI hQ hck hfl hr ht (by decide) (by omega) (fun V eV q' rg' h => ?_)
      have H := h5 ht (by omega) w V eV rt' rv' re' q' rg' W' h
      rw [pif_f ma, pif_f ma] at H
      exact H
end

/-! VersionTrans (room VT): its shape; rows, pins -/
/-- labels: 0 this, 1 newest, 2 transactions, 3 holders, 4 conflicts of triples, 5 of graphs, 6 queue, 7 a transaction, 8 its writes, 9 what it noted, 10 ring, 11 a row (64 k + v), 12 a pin -/
def tvK (wr : Int → Int) (i : Nat) (j : Int) : Nat := match i with
  | 0 => 1 | 1 => 9 | 2 => 10 | 3 => 11 | 4 => 6 | 5 => 6 | 6 => 11 | 7 => if wr j = 0 then 3 else 2 | 8 => 8 | 9 => 7 | 10 => 6 | 11 => 4 | 12 => 5 | _ => 0
def tvL : Nat → Nat
  | 1 => 200 | 2 => 60 | 3 => 200 | 4 => 200 | 5 => 4 | 6 => 3600 | 8 => 200 | 9 => 4 | _ => 0
def tvU (c : Int) (wr : Int → Int) (vr : Int → Int → Int) (ps : List Int) (i : Nat) (j : Int) : Prop := match i with
  | 0 => j = 0 | 1 => j = 0 | 2 => j = 0 | 3 => j = 0 | 4 => j = 0 | 5 => j = 0 | 6 => j = 0 | 7 => 0 ≤ j ∧ j < c | 8 => (0 ≤ j ∧ j < c) ∧ ¬ wr j = 0 | 9 => (0 ≤ j ∧ j < c) ∧ ¬ wr j = 0 | 10 => j = 0 | 11 => ¬ vr (j / 64) (j % 64) = 0 | 12 => j ∈ ps | _ => False
/-- the greatest row below B -/
def tvNx (A : Nat → Int → Nat) (vr : Int → Int → Int) (k B : Int) (o : Option Nat) : Prop := (o = none ∧ ∀ u, u < B → vr k u = 0) ∨ ∃ u, u < B ∧ ¬ vr k u = 0 ∧ (∀ w, u < w → w < B → vr k w = 0) ∧ o = some (A 11 (64 * k + u))
def tvVr (vr : Int → Int → Int) (la : Int) : Prop := ∀ k v, ¬ vr k v = 0 → (0 ≤ k ∧ k < 200) ∧ (0 ≤ v ∧ v ≤ la) ∧ (vr k v = 1 ∨ vr k v = 2)
def tvRw (ar : Nat → Int → Option Nat) (ver th : Nat → Int) (ol : Nat → Option Nat) (A : Nat → Int → Nat) (vr : Int → Int → Int) : Prop := (∀ k, 0 ≤ k → k < 200 → tvNx A vr k 64 (ar (A 1 0) k)) ∧ ∀ k v, ¬ vr k v = 0 → ver (A 11 (64 * k + v)) = v ∧ th (A 11 (64 * k + v)) = (if vr k v = 2 then 1 else 0) ∧ tvNx A vr k v (ol (A 11 (64 * k + v)))
/-- a list of pins from one on -/
def tvPl (nx : Nat → Option Nat) (A : Nat → Int → Nat) : List Int → Option Nat → Prop
  | [], o => o = none
  | v :: l, o => o = some (A 12 v) ∧ tvPl nx A l (nx (A 12 v))
def tvPn (ver co : Nat → Int) (A : Nat → Int → Nat) (pn : Int → Int) (ps : List Int) : Prop := ∀ v, v ∈ ps → ver (A 12 v) = v ∧ co (A 12 v) = pn v
def tvPs (pn : Int → Int) (ps : List Int) : Prop := (∀ v, v ∈ ps → 0 ≤ v ∧ v < 64) ∧ (∀ v, 0 ≤ v → v < 64 → 0 ≤ pn v ∧ pn v ≤ 100000 ∧ (¬ pn v = 0 → v ∈ ps)) ∧ ps.Nodup
section
variable {c la k v : Int} {wr se st pn : Int → Int} {vr : Int → Int → Int} {ps : List Int}
theorem tvU_row (hV : tvVr vr la) (hla : la < 64) (h : ¬ vr k v = 0) : tvU c wr vr ps 11 (64 * k + v) := by
  have := hV k v h
  show ¬ vr ((64 * k + v) / 64) ((64 * k + v) % 64) = 0
  rw [show (64 * k + v) / 64 = k by omega, show (64 * k + v) % 64 = v by omega]; exact h
variable {kd : Nat → Nat} {an : Nat → Nat} {ai : Nat → Int → Int} {al : Nat → Int → Int} {ar : Nat → Int → Option Nat} {mX5_newest : Nat → Option Nat} {mX5_rows : Nat → Int} {mX5_latest : Nat → Int} {mX5_pins : Nat → Option Nat} {mX5_transactions : Nat → Option Nat} {mX5_count : Nat → Int} {mX5_holders : Nat → Option Nat} {mX5_tripleConflicts : Nat → Option Nat} {mX5_graphConflicts : Nat → Option Nat} {mX5_turns : Nat → Int} {mX5_queue : Nat → Option Nat} {mX5_head : Nat → Int} {mX5_tail : Nat → Int} {mX5_ring : Nat → Option Nat} {mX58_number : Nat → Int} {mX58_sees : Nat → Int} {mX58_state : Nat → Option Nat} {mX59_writes : Nat → Option Nat} {mX59_count : Nat → Int} {mX59_noted : Nat → Option Nat} {mX59_waitsFor : Nat → Option Nat} {mX59_turn : Nat → Int} {mX59_triple : Nat → Int} {mX59_there : Nat → Int} {mX60_version : Nat → Int} {mX60_there : Nat → Int} {mX60_older : Nat → Option Nat} {mX66_version : Nat → Int} {mX66_count : Nat → Int} {mX66_next : Nat → Option Nat} {sa : Nat → Nat} {A : Nat → Int → Nat} {gi : Nat → Nat × Int}
theorem CVT_isThere {post : Int → Prop} (G : LabU (tvK wr) tvL (tvU c wr vr ps) kd an A gi) (F : mX5_newest (A 0 0) = some (A 1 0)) (hR : tvRw ar mX60_version mX60_there mX60_older A vr) (hV : tvVr vr la) (hla : la < 64) (hk : 0 ≤ k ∧ k < 200) (hv : v < 64) (h1 : vtTh vr k v → post 1) (h0 : ¬ vtTh vr k v → post 0) : wpVT_X5_isThere post kd an ar mX5_newest mX60_version mX60_there mX60_older (A 0 0) v k := by
  unfold wpVT_X5_isThere
  refine kOn_of F ⟨G.k 1 0 rfl, by rw [G.l 1 0 rfl (by decide)]; exact hk, fun r er => ?_⟩
  have key : ∀ (d : Nat) (B : Int) (o : Option Nat), tvNx A vr k B o → v < B → B.toNat < d → wVT_X5_isThere_7 (fun (x3_10 : Option Nat) => ((x3_10 = none → ((post 0))) ∧ (∀ b_11 : Nat, x3_10 = some b_11 → (kd b_11 = 4 ∧ ((((mX60_there b_11) = 0 → ((post 0))) ∧ (¬ (mX60_there b_11) = 0 → ((post 1))))))))) v kd mX60_version mX60_older d o := by
    intro d
    induction d with
    | zero => intro B o _ _ h; omega
    | succ d ih =>
      intro B o hN hB hd
      rw [wVT_X5_isThere_7]
      rcases hN with ⟨eo, hz⟩ | ⟨u, uB, un, uz, eo⟩
      · refine ⟨fun _ => ⟨fun _ => h0 ?_, fun b e => by rw [eo] at e; exact absurd e (by simp)⟩, fun b e => by rw [eo] at e; exact absurd e (by simp)⟩
        rintro ⟨u, hu, e2, -⟩
        have := hz u (by omega)
        omega
      · refine ⟨fun e => by rw [eo] at e; exact absurd e (by simp), fun b e => ?_⟩
        have eb : b = A 11 (64 * k + u) := by rw [eo] at e; exact (Option.some.inj e).symm
        subst eb
        have V := hV k u un
        obtain ⟨r1, r2, r3⟩ := hR.2 k u un
        refine ⟨G.k 11 _ (tvU_row hV hla un), fun le => ⟨fun e2 => absurd (e2.symm.trans e) (by simp), fun b e2 => ?_⟩, fun le x e2 => ?_⟩
        · have eb : b = A 11 (64 * k + u) := by rw [eo] at e2; exact (Option.some.inj e2).symm
          subst eb
          rw [r1] at le
          refine ⟨G.k 11 _ (tvU_row hV hla un), fun z => h0 ?_, fun z => h1 ⟨u, le, ?_, fun w a b => uz w a (by omega)⟩⟩
          · rintro ⟨w, hw, e3, w2⟩
            rw [r2] at z
            by_cases h : w = u
            · subst h; rw [if_pos e3] at z; omega
            · by_cases h2 : w < u
              · have := w2 u h2 le; omega
              · have := uz w (by omega) (by omega); omega
          · rw [r2] at z
            by_cases h : vr k u = 2
            · exact h
            · rw [if_neg h] at z; exact absurd rfl z
        · rw [r1] at le
          rw [e2]
          exact ih u _ r3 (by omega) (by omega)
  rw [er]
  exact ⟨_, key _ 64 _ (hR.1 k hk.1 hk.2) hv (Nat.lt_succ_self _)⟩
theorem CVT_isChangedB {P Q : Prop} (G : LabU (tvK wr) tvL (tvU c wr vr ps) kd an A gi) (F : mX5_newest (A 0 0) = some (A 1 0)) (hR : tvRw ar mX60_version mX60_there mX60_older A vr) (hV : tvVr vr la) (hla : la < 64) (hk : 0 ≤ k ∧ k < 200) (h1 : vtAb vr k v → Q) (h0 : ¬ vtAb vr k v → P) : wpVT_X5_isChanged (fun r => (r = 0 → P) ∧ (¬ r = 0 → Q)) kd an ar mX5_newest mX60_version (A 0 0) k v := by
  unfold wpVT_X5_isChanged
  refine kOn_of F ⟨G.k 1 0 rfl, by rw [G.l 1 0 rfl (by decide)]; exact hk, fun r er => ?_⟩
  rw [← er]
  have N := hR.1 k hk.1 hk.2
  rw [← er] at N
  rcases N with ⟨eo, hz⟩ | ⟨u, uB, un, uz, eo⟩
  · refine ⟨fun _ => ⟨fun _ => h0 ?_, fun q => absurd rfl q⟩, fun b e => by rw [eo] at e; exact absurd e (by simp)⟩
    rintro ⟨u, -, h⟩
    have := (hV k u h).2.1
    exact h (hz u (by omega))
  · refine ⟨fun e => by rw [eo] at e; exact absurd e (by simp), fun b e r7 e7 => ?_⟩
    rw [e7]
    refine kOn_of eo ⟨G.k 11 _ (tvU_row hV hla un), ?_⟩
    rw [(hR.2 k u un).1]
    refine ⟨fun le => ⟨fun _ => h0 ?_, fun q => absurd rfl q⟩, fun le => ⟨fun q => absurd q (by decide), fun _ => h1 ⟨u, by omega, un⟩⟩⟩
    rintro ⟨w, hw, h⟩
    have := (hV k w h).2.1
    exact h (uz w (by omega) (by omega))
end

/-! VersionTrans (room VT): transactions, what is asked, least, pins looked up -/
def tvTr (ar : Nat → Int → Option Nat) (num sees : Nat → Int) (wrs nos : Nat → Option Nat) (A : Nat → Int → Nat) (c : Int) (wr se : Int → Int) : Prop := ∀ t, 0 ≤ t → t < c → ar (A 2 0) t = some (A 7 t) ∧ num (A 7 t) = t ∧ sees (A 7 t) = se t ∧ (¬ wr t = 0 → wrs (A 7 t) = some (A 8 t) ∧ nos (A 7 t) = some (A 9 t))
def tvSt (sa : Nat → Nat) (sm : Nat → Option Nat) (A : Nat → Int → Nat) (c : Int) (st : Int → Int) : Prop := ∀ t, 0 ≤ t → t < c → sm (A 7 t) = some (sa (5 + (st t).toNat)) ∧ 0 ≤ st t ∧ st t ≤ 4
def tvSa (sa : Nat → Nat) : Prop := ∀ i j : Nat, i ≤ 4 → j ≤ 4 → sa (5 + i) = sa (5 + j) → i = j
theorem tvSt.e {sa : Nat → Nat} {sm : Nat → Option Nat} {A : Nat → Int → Nat} {c t : Int} {st : Int → Int} (h : tvSt sa sm A c st) (hsa : tvSa sa) (ht : 0 ≤ t ∧ t < c) (j : Nat) (hj : j ≤ 4) : sm (A 7 t) = some (sa (5 + j)) ↔ st t = j := by
  obtain ⟨a, b, d⟩ := h t ht.1 ht.2
  rw [a]
  constructor
  · intro e
    have := hsa _ _ (by omega) hj (Option.some.inj e)
    omega
  · intro e
    rw [show (st t).toNat = j by omega]
/-- agreement on what is in use of a class -/
def AgC {α : Type} (U : Nat → Int → Prop) (A : Nat → Int → Nat) (i : Nat) (m m' : Nat → α) : Prop := ∀ j, U i j → m' (A i j) = m (A i j)
section
variable {α : Type} {K : Nat → Int → Nat} {L : Nat → Nat} {U : Nat → Int → Prop} {kd an : Nat → Nat} {A : Nat → Int → Nat} {g : Nat → Nat × Int} {i : Nat} {m m' m'' : Nat → α} {v : α}
theorem AgC.r : AgC U A i m m := fun _ _ => rfl
theorem AgC.t (h : AgC U A i m m') (h' : AgC U A i m' m'') : AgC U A i m m'' := fun j u => (h' j u).trans (h j u)
theorem AgC.f (G : LabU K L U kd an A g) {q : Nat} (hq : kd q = 0) : AgC U A i m (va_up m q v) := fun _ u => va_up_ne _ _ (G.fresh hq u)
theorem AgC.o (G : LabU K L U kd an A g) {i0 : Nat} {j0 : Int} (h0 : U i0 j0) (h : i ≠ i0) : AgC U A i m (va_up m (A i0 j0) v) := fun _ u => va_up_ne _ _ (G.ne u h0 (Or.inl h))
end
section
variable {c la k v t : Int} {wr se st pn : Int → Int} {vr : Int → Int → Int} {ps : List Int}
variable {MC MS : Nat}
theorem CVT_need {post : Prop} {px : Nat → Prop} {y : Int} (hC : 1 ≤ MC) (hS : 6 ≤ MS) (h1 : y = 0 → px 1) (h0 : ¬ y = 0 → post) : wpVT_X5_need MC MS post px y := by
  unfold wpVT_X5_need
  exact ⟨fun e => ⟨by omega, by omega, h1 e⟩, fun e => ⟨by omega, by omega, h0 e⟩⟩
theorem CVT_may {post : Prop} {px : Nat → Prop} {y : Int} (hC : 1 ≤ MC) (hS : 6 ≤ MS) (h1 : y = 0 → px 2) (h0 : ¬ y = 0 → post) : wpVT_X5_may MC MS post px y := by
  unfold wpVT_X5_may
  exact ⟨fun e => ⟨by omega, by omega, h1 e⟩, fun e => ⟨by omega, by omega, h0 e⟩⟩
theorem CVT_needTriple {post : Prop} {px : Nat → Prop} (hC : 1 ≤ MC) (hS : 6 ≤ MS) (h1 : ¬ (0 ≤ k ∧ k < 200) → px 1) (h0 : 0 ≤ k ∧ k < 200 → post) : wpVT_X5_needTriple MC MS post px k := by
  unfold wpVT_X5_needTriple
  exact ⟨fun a => ⟨1, 6, ⟨by omega, by omega⟩, CVT_need (by decide) (by decide) (fun _ => h1 (by omega)) (fun q => absurd rfl q)⟩, fun a => ⟨fun b => ⟨1, 6, ⟨by omega, by omega⟩, CVT_need (by decide) (by decide) (fun _ => h1 (by omega)) (fun q => absurd rfl q)⟩, fun b => ⟨1, 6, ⟨by omega, by omega⟩, CVT_need (by decide) (by decide) (fun q => absurd q (by decide)) (fun _ => ⟨by omega, by omega, h0 (by omega)⟩)⟩⟩⟩
variable {kd : Nat → Nat} {an : Nat → Nat} {ai : Nat → Int → Int} {al : Nat → Int → Int} {ar : Nat → Int → Option Nat} {mX5_newest : Nat → Option Nat} {mX5_rows : Nat → Int} {mX5_latest : Nat → Int} {mX5_pins : Nat → Option Nat} {mX5_transactions : Nat → Option Nat} {mX5_count : Nat → Int} {mX5_holders : Nat → Option Nat} {mX5_tripleConflicts : Nat → Option Nat} {mX5_graphConflicts : Nat → Option Nat} {mX5_turns : Nat → Int} {mX5_queue : Nat → Option Nat} {mX5_head : Nat → Int} {mX5_tail : Nat → Int} {mX5_ring : Nat → Option Nat} {mX58_number : Nat → Int} {mX58_sees : Nat → Int} {mX58_state : Nat → Option Nat} {mX59_writes : Nat → Option Nat} {mX59_count : Nat → Int} {mX59_noted : Nat → Option Nat} {mX59_waitsFor : Nat → Option Nat} {mX59_turn : Nat → Int} {mX59_triple : Nat → Int} {mX59_there : Nat → Int} {mX60_version : Nat → Int} {mX60_there : Nat → Int} {mX60_older : Nat → Option Nat} {mX66_version : Nat → Int} {mX66_count : Nat → Int} {mX66_next : Nat → Option Nat} {sa : Nat → Nat} {A : Nat → Int → Nat} {gi : Nat → Nat × Int}
theorem CVT_at {post : Option Nat → Prop} {px : Nat → Prop} (hC : 1 ≤ MC) (hS : 6 ≤ MS) (G : LabU (tvK wr) tvL (tvU c wr vr ps) kd an A gi) (F : mX5_transactions (A 0 0) = some (A 2 0)) (T : tvTr ar mX58_number mX58_sees mX59_writes mX59_noted A c wr se) (ec : mX5_count (A 0 0) = c) (hc : c ≤ 60) (h1 : ¬ (0 ≤ t ∧ t < c) → px 1) (h0 : 0 ≤ t ∧ t < c → post (some (A 7 t))) : wpVT_X5_at MC MS post px kd an ar mX5_transactions mX5_count (A 0 0) t := by
  unfold wpVT_X5_at
  rw [ec]
  refine ⟨fun a => ⟨1, 6, ⟨by omega, by omega⟩, CVT_need (by decide) (by decide) (fun _ => h1 (by omega)) (fun q => absurd rfl q)⟩, fun a => ⟨fun b => ⟨1, 6, ⟨by omega, by omega⟩, CVT_need (by decide) (by decide) (fun _ => h1 (by omega)) (fun q => absurd rfl q)⟩, fun b => ⟨1, 6, ⟨by omega, by omega⟩, CVT_need (by decide) (by decide) (fun q => absurd q (by decide)) (fun _ => kOn_of F ⟨G.k 2 0 rfl, by rw [G.l 2 0 rfl (by decide)]; show 0 ≤ t ∧ t < (60 : Int); omega, fun r er => ⟨by omega, by omega, ?_⟩⟩)⟩⟩⟩
  rw [er, (T t (by omega) (by omega)).1]
  exact h0 (by omega)
theorem CVT_live {post : Int → Prop} (G : LabU (tvK wr) tvL (tvU c wr vr ps) kd an A gi) (hsa : tvSa sa) (S : tvSt sa mX58_state A c st) (ht : 0 ≤ t ∧ t < c) (h1 : st t < 3 → post 1) (h0 : ¬ st t < 3 → post 0) : wpDVT_X58_isLive_2_3 post kd mX58_state sa (A 7 t) := by
  have sb := (S t ht.1 ht.2).2
  have e3 := S.e hsa ht 3 (by decide)
  have e4 := S.e hsa ht 4 (by decide)
  have key : wpVT_X58_isLive post mX58_state sa (A 7 t) := by
    unfold wpVT_X58_isLive
    exact ⟨fun e => h0 (by have := e3.mp e; omega), fun e => ⟨fun e2 => h0 (by have := e4.mp e2; omega), fun e2 => h1 (by
      have a : ¬ st t = 3 := fun q => e (e3.mpr q)
      have b : ¬ st t = 4 := fun q => e2 (e4.mpr q)
      omega)⟩⟩
  have kk := G.k 7 t ht
  unfold wpDVT_X58_isLive_2_3
  by_cases h : wr t = 0
  · exact Or.inr ⟨by rw [kk]; show (if wr t = 0 then 3 else 2) = 3; rw [if_pos h], key⟩
  · exact Or.inl ⟨by rw [kk]; show (if wr t = 0 then 3 else 2) = 2; rw [if_neg h], key⟩
theorem tvKk (G : LabU (tvK wr) tvL (tvU c wr vr ps) kd an A gi) (ht : 0 ≤ t ∧ t < c) : kd (A 7 t) = 2 ∨ kd (A 7 t) = 3 := by
  have kk := G.k 7 t ht
  by_cases h : wr t = 0
  · right; rw [kk]; show (if wr t = 0 then 3 else 2) = 3; rw [if_pos h]
  · left; rw [kk]; show (if wr t = 0 then 3 else 2) = 2; rw [if_neg h]
theorem tvKw (G : LabU (tvK wr) tvL (tvU c wr vr ps) kd an A gi) (ht : 0 ≤ t ∧ t < c) (h : ¬ wr t = 0) : kd (A 7 t) = 2 := by
  rw [G.k 7 t ht]; show (if wr t = 0 then 3 else 2) = 2; rw [if_neg h]
theorem tvKr (G : LabU (tvK wr) tvL (tvU c wr vr ps) kd an A gi) (ht : 0 ≤ t ∧ t < c) (h : wr t = 0) : kd (A 7 t) = 3 := by
  rw [G.k 7 t ht]; show (if wr t = 0 then 3 else 2) = 3; rw [if_pos h]
theorem CVT_l52 {K : Int → Prop} (G : LabU (tvK wr) tvL (tvU c wr vr ps) kd an A gi) (hP : tvPn mX66_version mX66_count A pn ps) : ∀ (l : List Int) (x : Int) (o : Option Nat), (∀ v, v ∈ l → v ∈ ps) → tvPl mX66_next A l o → (∀ m, (m = x ∨ ∃ v, v ∈ l ∧ 0 < pn v ∧ v = m) → m ≤ x → (∀ v, v ∈ l → 0 < pn v → m ≤ v) → K m) → wVT_X5_least_52 K kd mX66_version mX66_count mX66_next (l.length + 1) x o
  | [], x, o, _, hl, hK => by
    rw [wVT_X5_least_52]
    have hl : o = none := hl
    refine ⟨fun _ => hK x (Or.inl rfl) (Int.le_refl _) (fun v h => absurd h (List.not_mem_nil)), fun b e => by rw [hl] at e; exact absurd e (by simp)⟩
  | v :: l, x, o, hs, hl, hK => by
    obtain ⟨eo, hl⟩ := hl
    have hv := hs v List.mem_cons_self
    obtain ⟨p1, p2⟩ := hP v hv
    show wVT_X5_least_52 K kd mX66_version mX66_count mX66_next (l.length + 1 + 1) x o
    rw [wVT_X5_least_52]
    refine ⟨fun e => by rw [eo] at e; exact absurd e (by simp), fun b e => ?_⟩
    have eb : b = A 12 v := by rw [eo] at e; exact (Option.some.inj e).symm
    subst eb
    refine ⟨G.k 12 v hv, ?_⟩
    rw [p1, p2]
    refine ⟨fun z _ e2 => ?_, fun z _ e1 _ e2 => ?_⟩
    · rw [e2]
      refine CVT_l52 G hP l x _ (fun w h => hs w (List.mem_cons_of_mem _ h)) hl (fun m h1 h2 h3 => hK m ?_ h2 (fun w h hp => ?_))
      · rcases h1 with h | ⟨w, h, h'⟩
        · exact Or.inl h
        · exact Or.inr ⟨w, List.mem_cons_of_mem _ h, h'⟩
      · rcases List.mem_cons.mp h with h | h
        · subst h; omega
        · exact h3 w h hp
    · rw [e2]
      refine CVT_l52 G hP l _ _ (fun w h => hs w (List.mem_cons_of_mem _ h)) hl (fun m h1 h2 h3 => hK m ?_ ?_ (fun w h hp => ?_))
      · rcases h1 with h | ⟨w, h, h'⟩
        · rw [e1] at h
          by_cases q : v < x
          · rw [if_pos q] at h; exact Or.inr ⟨v, List.mem_cons_self, by omega, h.symm⟩
          · rw [if_neg q] at h; exact Or.inl h
        · exact Or.inr ⟨w, List.mem_cons_of_mem _ h, h'⟩
      · rw [e1] at h2
        by_cases q : v < x
        · rw [if_pos q] at h2; omega
        · rw [if_neg q] at h2; exact h2
      · rcases List.mem_cons.mp h with h | h
        · subst h
          rw [e1] at h2
          by_cases q : w < x
          · rw [if_pos q] at h2; exact h2
          · rw [if_neg q] at h2; omega
        · exact h3 w h hp
theorem CVT_least {post : Int → Prop} (G : LabU (tvK wr) tvL (tvU c wr vr ps) kd an A gi) (F : mX5_transactions (A 0 0) = some (A 2 0)) (T : tvTr ar mX58_number mX58_sees mX59_writes mX59_noted A c wr se) (hsa : tvSa sa) (S : tvSt sa mX58_state A c st) (hP : tvPl mX66_next A ps (mX5_pins (A 0 0)) ∧ tvPn mX66_version mX66_count A pn ps) (hQ : tvPs pn ps) (ec : mX5_count (A 0 0) = c) (el : mX5_latest (A 0 0) = la) (hc : 0 ≤ c ∧ c ≤ 60) (hp : ∀ m, vtLk la pn se st c m → post m) : wpVT_X5_least post kd an ar mX5_latest mX5_pins mX5_transactions mX5_count mX58_sees mX58_state mX66_version mX66_count mX66_next sa (A 0 0) := by
  unfold wpVT_X5_least
  rintro _ e0
  rw [el] at e0
  rw [e0]
  refine wl2 (fun m x t => wVT_X5_least_7 _ (A 0 0) kd an ar mX5_transactions mX5_count mX58_sees mX58_state sa m x t) (fun x t => (0 ≤ t ∧ t ≤ c) ∧ (x = la ∨ ∃ t', (0 ≤ t' ∧ t' < t) ∧ st t' < 3 ∧ se t' = x) ∧ x ≤ la ∧ ∀ t', 0 ≤ t' → t' < t → st t' < 3 → x ≤ se t') (fun x t => (c - t).toNat) ?_ la 0 ⟨by omega, Or.inl rfl, Int.le_refl _, fun _ _ _ => by omega⟩
  rintro x t ⟨ht, hx, hl, hm⟩ m ih
  rw [wVT_X5_least_7, ec]
  refine ⟨fun z _ e2 => ?_, fun z => kOn_of F ⟨G.k 2 0 rfl, by rw [G.l 2 0 rfl (by decide)]; show 0 ≤ t ∧ t < (60 : Int); omega, fun r er => ?_⟩⟩
  · have et : t = c := by omega
    subst et
    rw [e2]
    refine ⟨_, CVT_l52 G hP.2 ps x _ (fun v h => h) hP.1 (fun m h1 h2 h3 => hp m ⟨?_, by omega, fun t' a b w => by have := hm t' a b w; omega, fun k a b w => h3 k ((hQ.2.1 k a b).2.2 (by omega)) w⟩)⟩
    rcases h1 with h | ⟨v, h, h', h''⟩
    · rcases hx with h2 | h2
      · exact Or.inl (h.trans h2)
      · rw [← h] at h2; exact Or.inr (Or.inl h2)
    · exact Or.inr (Or.inr ⟨v, hQ.1 v h, h', h''⟩)
  · have tt : 0 ≤ t ∧ t < c := by omega
    have T1 := T t tt.1 tt.2
    rw [T1.1] at er
    rw [er]
    refine kOn_some ⟨tvKk G tt, CVT_live G hsa S tt (fun lv => ⟨fun q => absurd q (by decide), fun _ r e => kOn_of (e.trans T1.1) ⟨tvKk G tt, fun _ e1 => ⟨by omega, fun _ e2 => ?_⟩⟩⟩) (fun lv => ⟨fun _ => ⟨by omega, fun _ e2 => ?_⟩, fun q => absurd rfl q⟩)⟩
    · rw [T1.2.2.1] at e1
      rw [e2]
      refine ih _ _ ⟨by omega, ?_, by rw [e1]; split <;> omega, fun t' a b w => ?_⟩ (by omega)
      · rw [e1]
        by_cases q : se t < x
        · rw [if_pos q]; exact Or.inr ⟨t, by omega, lv, rfl⟩
        · rw [if_neg q]
          rcases hx with h | ⟨t', a, b, h⟩
          · exact Or.inl h
          · exact Or.inr ⟨t', by omega, b, h⟩
      · have : t' ≠ t → x ≤ se t' := fun h => hm t' a (by omega) w
        rw [e1]
        by_cases h : t' = t
        · subst h; split <;> omega
        · have := this h; split <;> omega
    · rw [e2]
      refine ih _ _ ⟨by omega, ?_, hl, fun t' a b w => ?_⟩ (by omega)
      · rcases hx with h | ⟨t', a, b, h⟩
        · exact Or.inl h
        · exact Or.inr ⟨t', by omega, b, h⟩
      · by_cases h : t' = t
        · subst h; exact absurd w lv
        · exact hm t' a (by omega) w
theorem CVT_needVersion {post : Prop} {px : Nat → Prop} (hC : 1 ≤ MC) (hS : 6 ≤ MS) (G : LabU (tvK wr) tvL (tvU c wr vr ps) kd an A gi) (F : mX5_transactions (A 0 0) = some (A 2 0)) (T : tvTr ar mX58_number mX58_sees mX59_writes mX59_noted A c wr se) (hsa : tvSa sa) (S : tvSt sa mX58_state A c st) (hP : tvPl mX66_next A ps (mX5_pins (A 0 0)) ∧ tvPn mX66_version mX66_count A pn ps) (hQ : tvPs pn ps) (ec : mX5_count (A 0 0) = c) (el : mX5_latest (A 0 0) = la) (hc : 0 ≤ c ∧ c ≤ 60) (h1 : ¬ vtTe la pn se st c v → px 1) (h0 : vtTe la pn se st c v → post) : wpVT_X5_needVersion MC MS post px kd an ar mX5_latest mX5_pins mX5_transactions mX5_count mX58_sees mX58_state mX66_version mX66_count mX66_next sa (A 0 0) v := by
  unfold wpVT_X5_needVersion
  refine ⟨by omega, CVT_least G F T hsa S hP hQ ec el hc (fun m hm => ?_)⟩
  rw [el]
  have no : v < m → ¬ vtTe la pn se st c v := fun a ⟨⟨m', hm', le⟩, _⟩ => by
    have := vtLk_u hm hm'
    omega
  exact ⟨fun a => ⟨1, 6, ⟨by omega, by omega⟩, CVT_need (by decide) (by decide) (fun _ => h1 (no a)) (fun q => absurd rfl q)⟩, fun a => ⟨fun b => ⟨1, 6, ⟨by omega, by omega⟩, CVT_need (by decide) (by decide) (fun _ => h1 (fun w => by have := w.2; omega)) (fun q => absurd rfl q)⟩, fun b => ⟨1, 6, ⟨by omega, by omega⟩, CVT_need (by decide) (by decide) (fun q => absurd q (by decide)) (fun _ => ⟨by omega, by omega, h0 ⟨⟨m, hm, by omega⟩, by omega⟩⟩)⟩⟩⟩
theorem CVT_pinOf {post : Option Nat → Prop} (G : LabU (tvK wr) tvL (tvU c wr vr ps) kd an A gi) (hP : tvPl mX66_next A ps (mX5_pins (A 0 0)) ∧ tvPn mX66_version mX66_count A pn ps) (h1 : v ∈ ps → post (some (A 12 v))) (h0 : v ∉ ps → post none) : wpVT_X5_pinOf post kd mX5_pins mX66_version mX66_next (A 0 0) v := by
  have key : ∀ (l : List Int) (o : Option Nat), (∀ w, w ∈ l → w ∈ ps) → tvPl mX66_next A l o → (v ∈ ps → v ∈ l) → wVT_X5_pinOf_5 (fun x => post x) v kd mX66_version mX66_next (l.length + 1) o := by
    intro l
    induction l with
    | nil =>
      intro o _ hl hn
      rw [wVT_X5_pinOf_5]
      have hl : o = none := hl
      exact ⟨fun _ => by rw [hl]; exact h0 (fun h => absurd (hn h) (List.not_mem_nil)), fun b e => by rw [hl] at e; exact absurd e (by simp)⟩
    | cons w l ih =>
      intro o hs hl hn
      obtain ⟨eo, hl⟩ := hl
      have hw := hs w List.mem_cons_self
      obtain ⟨p1, p2⟩ := hP.2 w hw
      show wVT_X5_pinOf_5 (fun x => post x) v kd mX66_version mX66_next (l.length + 1 + 1) o
      rw [wVT_X5_pinOf_5]
      refine ⟨fun e => by rw [eo] at e; exact absurd e (by simp), fun b e => ?_⟩
      have eb : b = A 12 w := by rw [eo] at e; exact (Option.some.inj e).symm
      subst eb
      refine ⟨G.k 12 w hw, ?_⟩
      rw [p1]
      refine ⟨fun z => ?_, fun z _ e2 => ?_⟩
      · subst z; rw [eo]; exact h1 hw
      · rw [e2]
        exact ih _ (fun u h => hs u (List.mem_cons_of_mem _ h)) hl (fun h => (List.mem_cons.mp (hn h)).resolve_left (fun q => z q.symm))
  unfold wpVT_X5_pinOf
  rintro _ e0
  rw [e0]
  exact ⟨_, key ps _ (fun w h => h) hP.1 (fun h => h)⟩
end

/-! VersionTrans (room VT): all of its state; what carries over to new labels -/
def tvFx (new tra hol tco gco que : Nat → Option Nat) (A : Nat → Int → Nat) : Prop := new (A 0 0) = some (A 1 0) ∧ tra (A 0 0) = some (A 2 0) ∧ hol (A 0 0) = some (A 3 0) ∧ tco (A 0 0) = some (A 4 0) ∧ gco (A 0 0) = some (A 5 0) ∧ que (A 0 0) = some (A 6 0)
def tvWt (wfm : Nat → Option Nat) (turn trip ther : Nat → Int) (A : Nat → Int → Nat) (c : Int) (st wf wt wl si : Int → Int) : Prop := ∀ t, 0 ≤ t → t < c → st t = 1 → wfm (A 7 t) = some (A 7 (wf t)) ∧ turn (A 7 t) = si t + 1 ∧ trip (A 7 t) = wt t ∧ ther (A 7 t) = wl t
def tvB (x : Int) : Int := if x = 0 then 0 else if x = 2 then 1 else 2
def tvWs (ai : Nat → Int → Int) (cnt : Nat → Int) (A : Nat → Int → Nat) (c : Int) (wr st ws : Int → Int) : Prop := ∀ t, 0 ≤ t → t < c → ¬ wr t = 0 → st t < 3 → (∀ k, 0 ≤ k → k < 200 → ai (A 8 t) k = tvB (ws (200 * t + k))) ∧ cnt (A 7 t) = vtWs 200 ws t
def tvO (A : Nat → Int → Nat) (h : Int) : Option Nat := if h = -1 then none else some (A 7 h)
def tvHo (ar : Nat → Int → Option Nat) (A : Nat → Int → Nat) (ho : Int → Int) : Prop := ∀ k, 0 ≤ k → k < 200 → ar (A 3 0) k = tvO A (ho k)
def tvQ (ar : Nat → Int → Option Nat) (h tl : Int) (A : Nat → Int → Nat) (Q : List Int) : Prop := (0 ≤ h ∧ h < 3600) ∧ Q.length < 3600 ∧ tl = (h + Q.length) % 3600 ∧ ∀ i : Nat, i < Q.length → ar (A 6 0) ((h + i) % 3600) = some (A 7 (Q.getD i 0))
def tvRg (an : Nat → Nat) (ai : Nat → Int → Int) (rg : Nat → Option Nat) (A : Nat → Int → Nat) (R : List Int) : Prop := rg (A 0 0) = some (A 10 0) ∧ an (A 10 0) = R.length ∧ vtQ (ai (A 10 0)) 0 R ∧ R.length ≤ 60
def tvGn (ai : Nat → Int → Int) (A : Nat → Int → Nat) (c : Int) (wr : Int → Int) (nt : Int → Int → Int) : Prop := ∀ t, 0 ≤ t → t < c → ¬ wr t = 0 → ∀ g, 0 ≤ g → g < 4 → ai (A 9 t) g = nt t g ∧ (nt t g = 0 ∨ nt t g = 1)
/-- what moves with writes, ends, waits -/
def tvD (kd : Nat → Nat) (an : Nat → Nat) (ai : Nat → Int → Int) (al : Nat → Int → Int) (ar : Nat → Int → Option Nat) (mX5_newest : Nat → Option Nat) (mX5_rows : Nat → Int) (mX5_latest : Nat → Int) (mX5_pins : Nat → Option Nat) (mX5_transactions : Nat → Option Nat) (mX5_count : Nat → Int) (mX5_holders : Nat → Option Nat) (mX5_tripleConflicts : Nat → Option Nat) (mX5_graphConflicts : Nat → Option Nat) (mX5_turns : Nat → Int) (mX5_queue : Nat → Option Nat) (mX5_head : Nat → Int) (mX5_tail : Nat → Int) (mX5_ring : Nat → Option Nat) (mX58_number : Nat → Int) (mX58_sees : Nat → Int) (mX58_state : Nat → Option Nat) (mX59_writes : Nat → Option Nat) (mX59_count : Nat → Int) (mX59_noted : Nat → Option Nat) (mX59_waitsFor : Nat → Option Nat) (mX59_turn : Nat → Int) (mX59_triple : Nat → Int) (mX59_there : Nat → Int) (mX60_version : Nat → Int) (mX60_there : Nat → Int) (mX60_older : Nat → Option Nat) (mX66_version : Nat → Int) (mX66_count : Nat → Int) (mX66_next : Nat → Option Nat) (sa : Nat → Nat) (A : Nat → Int → Nat) (c : Int) (wr : Int → Int) (S : VS) : Prop :=
  tvSt sa mX58_state A c S.st ∧ tvWt mX59_waitsFor mX59_turn mX59_triple mX59_there A c S.st S.wf S.wt S.wl S.si ∧ tvWs ai mX59_count A c wr S.st S.ws ∧ tvHo ar A S.ho ∧ tvQ ar (mX5_head (A 0 0)) (mX5_tail (A 0 0)) A S.Q ∧ mX5_turns (A 0 0) = S.ck ∧ (∀ k, 0 ≤ k → k < 200 → ai (A 4 0) k = S.fl k) ∧ tvRg an ai mX5_ring A S.R
/-- the rest -/
def tvE (kd : Nat → Nat) (an : Nat → Nat) (ai : Nat → Int → Int) (al : Nat → Int → Int) (ar : Nat → Int → Option Nat) (mX5_newest : Nat → Option Nat) (mX5_rows : Nat → Int) (mX5_latest : Nat → Int) (mX5_pins : Nat → Option Nat) (mX5_transactions : Nat → Option Nat) (mX5_count : Nat → Int) (mX5_holders : Nat → Option Nat) (mX5_tripleConflicts : Nat → Option Nat) (mX5_graphConflicts : Nat → Option Nat) (mX5_turns : Nat → Int) (mX5_queue : Nat → Option Nat) (mX5_head : Nat → Int) (mX5_tail : Nat → Int) (mX5_ring : Nat → Option Nat) (mX58_number : Nat → Int) (mX58_sees : Nat → Int) (mX58_state : Nat → Option Nat) (mX59_writes : Nat → Option Nat) (mX59_count : Nat → Int) (mX59_noted : Nat → Option Nat) (mX59_waitsFor : Nat → Option Nat) (mX59_turn : Nat → Int) (mX59_triple : Nat → Int) (mX59_there : Nat → Int) (mX60_version : Nat → Int) (mX60_there : Nat → Int) (mX60_older : Nat → Option Nat) (mX66_version : Nat → Int) (mX66_count : Nat → Int) (mX66_next : Nat → Option Nat) (A : Nat → Int → Nat) (gi : Nat → Nat × Int) (vr : Int → Int → Int) (la c : Int) (wr se pn : Int → Int) (ps : List Int) (nt : Int → Int → Int) (rf : Int → Int) : Prop :=
  LabU (tvK wr) tvL (tvU c wr vr ps) kd an A gi ∧ tvFx mX5_newest mX5_transactions mX5_holders mX5_tripleConflicts mX5_graphConflicts mX5_queue A ∧ tvTr ar mX58_number mX58_sees mX59_writes mX59_noted A c wr se ∧ tvRw ar mX60_version mX60_there mX60_older A vr ∧ (tvPl mX66_next A ps (mX5_pins (A 0 0)) ∧ tvPn mX66_version mX66_count A pn ps) ∧ tvGn ai A c wr nt ∧ (mX5_rows (A 0 0) = vtN 12800 vr ∧ mX5_latest (A 0 0) = la ∧ mX5_count (A 0 0) = c) ∧ ∀ g, 0 ≤ g → g < 4 → ai (A 5 0) g = rf g
def tvOK (kd : Nat → Nat) (an : Nat → Nat) (ai : Nat → Int → Int) (al : Nat → Int → Int) (ar : Nat → Int → Option Nat) (mX5_newest : Nat → Option Nat) (mX5_rows : Nat → Int) (mX5_latest : Nat → Int) (mX5_pins : Nat → Option Nat) (mX5_transactions : Nat → Option Nat) (mX5_count : Nat → Int) (mX5_holders : Nat → Option Nat) (mX5_tripleConflicts : Nat → Option Nat) (mX5_graphConflicts : Nat → Option Nat) (mX5_turns : Nat → Int) (mX5_queue : Nat → Option Nat) (mX5_head : Nat → Int) (mX5_tail : Nat → Int) (mX5_ring : Nat → Option Nat) (mX58_number : Nat → Int) (mX58_sees : Nat → Int) (mX58_state : Nat → Option Nat) (mX59_writes : Nat → Option Nat) (mX59_count : Nat → Int) (mX59_noted : Nat → Option Nat) (mX59_waitsFor : Nat → Option Nat) (mX59_turn : Nat → Int) (mX59_triple : Nat → Int) (mX59_there : Nat → Int) (mX60_version : Nat → Int) (mX60_there : Nat → Int) (mX60_older : Nat → Option Nat) (mX66_version : Nat → Int) (mX66_count : Nat → Int) (mX66_next : Nat → Option Nat) (sa : Nat → Nat) (A : Nat → Int → Nat) (gi : Nat → Nat × Int) (S : VS) (vr : Int → Int → Int) (la c : Int) (wr se pn : Int → Int) (ps : List Int) (nt : Int → Int → Int) (rf : Int → Int) : Prop :=
  tvE kd an ai al ar mX5_newest mX5_rows mX5_latest mX5_pins mX5_transactions mX5_count mX5_holders mX5_tripleConflicts mX5_graphConflicts mX5_turns mX5_queue mX5_head mX5_tail mX5_ring mX58_number mX58_sees mX58_state mX59_writes mX59_count mX59_noted mX59_waitsFor mX59_turn mX59_triple mX59_there mX60_version mX60_there mX60_older mX66_version mX66_count mX66_next A gi vr la c wr se pn ps nt rf ∧ tvD kd an ai al ar mX5_newest mX5_rows mX5_latest mX5_pins mX5_transactions mX5_count mX5_holders mX5_tripleConflicts mX5_graphConflicts mX5_turns mX5_queue mX5_head mX5_tail mX5_ring mX58_number mX58_sees mX58_state mX59_writes mX59_count mX59_noted mX59_waitsFor mX59_turn mX59_triple mX59_there mX60_version mX60_there mX60_older mX66_version mX66_count mX66_next sa A c wr S
/-- what holds of the numbers -/
def tvH (S : VS) (vr : Int → Int → Int) (la c : Int) (wr se pn : Int → Int) (ps : List Int) : Prop := (0 ≤ la ∧ la < 62) ∧ (0 ≤ c ∧ c ≤ 59) ∧ tvVr vr la ∧ tvPs pn ps ∧ (∀ t, 0 ≤ t → t < c → 0 ≤ se t ∧ se t ≤ la) ∧ vI c wr S ∧ S.Q = [] ∧ S.ck ≤ 890000 ∧ (∀ j, 0 ≤ j → j < 200 → 0 ≤ S.fl j ∧ S.fl j ≤ 890000) ∧ (∀ x, 0 ≤ x → x < 12000 → 0 ≤ S.ws x ∧ S.ws x ≤ 2) ∧ ∀ t k, 0 ≤ t → (c ≤ t ∨ wr t = 0) → 0 ≤ k → k < 200 → S.ws (200 * t + k) = 0
section
variable {c c' la k v t : Int} {wr wr' se st pn pn' rf : Int → Int} {vr vr' nt : Int → Int → Int} {ps ps' : List Int} {S : VS}
theorem tvU_m : ∀ (i : Nat) (j : Int), tvU c' wr' vr' ps' i j → (i = 7 → (0 ≤ j ∧ j < c') → (0 ≤ j ∧ j < c)) → (i = 8 ∨ i = 9 → ((0 ≤ j ∧ j < c') ∧ ¬ wr' j = 0) → (0 ≤ j ∧ j < c) ∧ ¬ wr j = 0) → (i = 11 → ¬ vr' (j / 64) (j % 64) = 0 → ¬ vr (j / 64) (j % 64) = 0) → (i = 12 → j ∈ ps' → j ∈ ps) → tvU c wr vr ps i j
  | 0, _, h, _, _, _, _ => h
  | 1, _, h, _, _, _, _ => h
  | 2, _, h, _, _, _, _ => h
  | 3, _, h, _, _, _, _ => h
  | 4, _, h, _, _, _, _ => h
  | 5, _, h, _, _, _, _ => h
  | 6, _, h, _, _, _, _ => h
  | 7, _, h, h7, _, _, _ => h7 rfl h
  | 8, _, h, _, h8, _, _ => h8 (Or.inl rfl) h
  | 9, _, h, _, h8, _, _ => h8 (Or.inr rfl) h
  | 10, _, h, _, _, _, _ => h
  | 11, _, h, _, _, h1, _ => h1 rfl h
  | 12, _, h, _, _, _, h2 => h2 rfl h
  | (_ + 13), _, h, _, _, _, _ => h
theorem tvK_e : ∀ (i : Nat) (j : Int), (i = 7 → wr' j = wr j) → tvK wr' i j = tvK wr i j
  | 0, _, _ => rfl
  | 1, _, _ => rfl
  | 2, _, _ => rfl
  | 3, _, _ => rfl
  | 4, _, _ => rfl
  | 5, _, _ => rfl
  | 6, _, _ => rfl
  | 7, j, h => by show (if wr' j = 0 then 3 else 2) = (if wr j = 0 then 3 else 2); rw [h rfl]
  | 8, _, _ => rfl
  | 9, _, _ => rfl
  | 10, _, _ => rfl
  | 11, _, _ => rfl
  | 12, _, _ => rfl
  | (_ + 13), _, _ => rfl
variable {A A' : Nat → Int → Nat}
/-- new labels leave the old ones (the ring's apart) -/
def tvA (c : Int) (wr : Int → Int) (vr : Int → Int → Int) (ps : List Int) (A A' : Nat → Int → Nat) : Prop := ∀ i j, i ≠ 10 → tvU c wr vr ps i j → A' i j = A i j
theorem tvTr.tr {ar ar' : Nat → Int → Option Nat} {num num' sees sees' : Nat → Int} {wrs wrs' nos nos' : Nat → Option Nat} (h : tvTr ar num sees wrs nos A c wr se) (hA : tvA c wr vr ps A A') (ha : ar' (A 2 0) = ar (A 2 0)) (h1 : AgC (tvU c wr vr ps) A 7 num num') (h2 : AgC (tvU c wr vr ps) A 7 sees sees') (h3 : AgC (tvU c wr vr ps) A 7 wrs wrs') (h4 : AgC (tvU c wr vr ps) A 7 nos nos') : tvTr ar' num' sees' wrs' nos' A' c wr se := fun t a b => by
  have u : tvU c wr vr ps 7 t := ⟨a, b⟩
  obtain ⟨q1, q2, q3, q4⟩ := h t a b
  rw [hA 2 0 (by decide) rfl, hA 7 t (by decide) u, ha, h1 t u, h2 t u, h3 t u, h4 t u]
  refine ⟨q1, q2, q3, fun w => ?_⟩
  rw [hA 8 t (by decide) ⟨u, w⟩, hA 9 t (by decide) ⟨u, w⟩]
  exact q4 w
theorem tvNx.tr {B : Int} {o : Option Nat} (h : tvNx A vr k B o) (hV : tvVr vr la) (hla : la < 64) (hA : tvA c wr vr ps A A') : tvNx A' vr k B o := by
  rcases h with h | ⟨u, a, b, d, e⟩
  · exact Or.inl h
  · exact Or.inr ⟨u, a, b, d, by rw [hA 11 _ (by decide) (tvU_row hV hla b)]; exact e⟩
theorem tvRw.tr {ar ar' : Nat → Int → Option Nat} {ver ver' th th' : Nat → Int} {ol ol' : Nat → Option Nat} (h : tvRw ar ver th ol A vr) (hV : tvVr vr la) (hla : la < 64) (hA : tvA c wr vr ps A A') (ha : ar' (A 1 0) = ar (A 1 0)) (h1 : AgC (tvU c wr vr ps) A 11 ver ver') (h2 : AgC (tvU c wr vr ps) A 11 th th') (h3 : AgC (tvU c wr vr ps) A 11 ol ol') : tvRw ar' ver' th' ol' A' vr := by
  refine ⟨fun k a b => ?_, fun k v n => ?_⟩
  · rw [hA 1 0 (by decide) rfl, ha]; exact (h.1 k a b).tr hV hla hA
  · have u := tvU_row (c := c) (wr := wr) (ps := ps) hV hla n
    obtain ⟨q1, q2, q3⟩ := h.2 k v n
    rw [hA 11 _ (by decide) u, h1 _ u, h2 _ u, h3 _ u]
    exact ⟨q1, q2, q3.tr hV hla hA⟩
theorem tvPl.tr {nx nx' : Nat → Option Nat} (hA : tvA c wr vr ps A A') (h1 : AgC (tvU c wr vr ps) A 12 nx nx') : ∀ (l : List Int) (o : Option Nat), (∀ v, v ∈ l → v ∈ ps) → tvPl nx A l o → tvPl nx' A' l o
  | [], _, _, h => h
  | v :: l, o, hs, h => by
    have u : tvU c wr vr ps 12 v := hs v List.mem_cons_self
    refine ⟨by rw [hA 12 v (by decide) u]; exact h.1, ?_⟩
    rw [hA 12 v (by decide) u, h1 v u]
    exact tvPl.tr hA h1 l _ (fun w q => hs w (List.mem_cons_of_mem _ q)) h.2
theorem tvPn.tr {ver ver' co co' : Nat → Int} (h : tvPn ver co A pn ps) (hA : tvA c wr vr ps A A') (h1 : AgC (tvU c wr vr ps) A 12 ver ver') (h2 : AgC (tvU c wr vr ps) A 12 co co') : tvPn ver' co' A' pn ps := fun v hv => by
  have u : tvU c wr vr ps 12 v := hv
  rw [hA 12 v (by decide) u, h1 v u, h2 v u]
  exact h v hv
theorem tvGn.tr {ai ai' : Nat → Int → Int} (h : tvGn ai A c wr nt) (hA : tvA c wr vr ps A A') (h1 : AgC (tvU c wr vr ps) A 9 ai ai') : tvGn ai' A' c wr nt := fun t a b w g => by
  have u : tvU c wr vr ps 9 t := ⟨⟨a, b⟩, w⟩
  rw [hA 9 t (by decide) u, h1 t u]
  exact h t a b w g
theorem tvFx.tr {new tra hol tco gco que : Nat → Option Nat} (h : tvFx new tra hol tco gco que A) (hA : tvA c wr vr ps A A') : tvFx new tra hol tco gco que A' := by
  unfold tvFx
  rw [hA 0 0 (by decide) rfl, hA 1 0 (by decide) rfl, hA 2 0 (by decide) rfl, hA 3 0 (by decide) rfl, hA 4 0 (by decide) rfl, hA 5 0 (by decide) rfl, hA 6 0 (by decide) rfl]
  exact h
theorem tvSt.tr {sa : Nat → Nat} {sm sm' : Nat → Option Nat} (h : tvSt sa sm A c st) (hA : tvA c wr vr ps A A') (h1 : AgC (tvU c wr vr ps) A 7 sm sm') : tvSt sa sm' A' c st := fun t a b => by
  have u : tvU c wr vr ps 7 t := ⟨a, b⟩
  rw [hA 7 t (by decide) u, h1 t u]
  exact h t a b
theorem tvO.tr {h : Int} (hA : tvA c wr vr ps A A') (hh : h = -1 ∨ (0 ≤ h ∧ h < c)) : tvO A' h = tvO A h := by
  unfold tvO
  rcases hh with e | e
  · rw [if_pos e, if_pos e]
  · rw [hA 7 h (by decide) e]
/-- all that moves, when none of it is touched but labels (the ring's apart) -/
theorem tvWt.tr {wfm wfm' : Nat → Option Nat} {tu tu' tp tp' te te' : Nat → Int} {wf wt wl si : Int → Int} (h : tvWt wfm tu tp te A c st wf wt wl si) (hb : ∀ w, 0 ≤ w → w < c → st w = 1 → 0 ≤ wf w ∧ wf w < c) (hA : tvA c wr vr ps A A') (h1 : AgC (tvU c wr vr ps) A 7 wfm wfm') (h2 : AgC (tvU c wr vr ps) A 7 tu tu') (h3 : AgC (tvU c wr vr ps) A 7 tp tp') (h4 : AgC (tvU c wr vr ps) A 7 te te') : tvWt wfm' tu' tp' te' A' c st wf wt wl si := fun t a b s => by
  have u : tvU c wr vr ps 7 t := ⟨a, b⟩
  rw [hA 7 t (by decide) u, hA 7 (wf t) (by decide) (hb t a b s), h1 t u, h2 t u, h3 t u, h4 t u]
  exact h t a b s
theorem tvWs.tr {ai ai' : Nat → Int → Int} {cn cn' : Nat → Int} {ws : Int → Int} (h : tvWs ai cn A c wr st ws) (hA : tvA c wr vr ps A A') (h1 : AgC (tvU c wr vr ps) A 8 ai ai') (h2 : AgC (tvU c wr vr ps) A 7 cn cn') : tvWs ai' cn' A' c wr st ws := fun t a b w s => by
  have u : tvU c wr vr ps 7 t := ⟨a, b⟩
  have u8 : tvU c wr vr ps 8 t := ⟨⟨a, b⟩, w⟩
  rw [hA 7 t (by decide) u, hA 8 t (by decide) u8, h1 t u8, h2 t u]
  exact h t a b w s
theorem tvHo.tr {ar ar' : Nat → Int → Option Nat} {ho : Int → Int} (h : tvHo ar A ho) (hb : ∀ k, 0 ≤ k → k < 200 → ho k = -1 ∨ (0 ≤ ho k ∧ ho k < c)) (hA : tvA c wr vr ps A A') (h1 : ar' (A 3 0) = ar (A 3 0)) : tvHo ar' A' ho := fun k a b => by
  rw [hA 3 0 (by decide) rfl, h1, tvO.tr hA (hb k a b)]
  exact h k a b
theorem tvQ.tr {ar ar' : Nat → Int → Option Nat} {x y : Int} {Q : List Int} (h : tvQ ar x y A Q) (hb : ∀ w, w ∈ Q → 0 ≤ w ∧ w < c) (hA : tvA c wr vr ps A A') (h1 : ar' (A 6 0) = ar (A 6 0)) : tvQ ar' x y A' Q := by
  refine ⟨h.1, h.2.1, h.2.2.1, fun i hi => ?_⟩
  have m : Q.getD i 0 ∈ Q := by
    rw [List.getD_eq_getElem?_getD, List.getElem?_eq_getElem hi]
    exact List.getElem_mem hi
  rw [hA 6 0 (by decide) rfl, h1, hA 7 _ (by decide) (hb _ m)]
  exact h.2.2.2 i hi
end

/-! VersionTrans (room VT): told, state, waits, ring, conflicts, read, note -/
def tvSo (so : kSo) (sa : Nat → Nat) : Prop := ∀ i : Nat, i ≤ 4 → so.k (sa (5 + i)) = 3 ∧ (so.c (sa (5 + i)) 0).toInt = i
section
variable {c la k v t g i : Int} {wr se st pn rf : Int → Int} {vr nt : Int → Int → Int} {ps : List Int} {S : VS} {MC MS : Nat}
variable {kd : Nat → Nat} {an : Nat → Nat} {ai : Nat → Int → Int} {al : Nat → Int → Int} {ar : Nat → Int → Option Nat} {mX5_newest : Nat → Option Nat} {mX5_rows : Nat → Int} {mX5_latest : Nat → Int} {mX5_pins : Nat → Option Nat} {mX5_transactions : Nat → Option Nat} {mX5_count : Nat → Int} {mX5_holders : Nat → Option Nat} {mX5_tripleConflicts : Nat → Option Nat} {mX5_graphConflicts : Nat → Option Nat} {mX5_turns : Nat → Int} {mX5_queue : Nat → Option Nat} {mX5_head : Nat → Int} {mX5_tail : Nat → Int} {mX5_ring : Nat → Option Nat} {mX58_number : Nat → Int} {mX58_sees : Nat → Int} {mX58_state : Nat → Option Nat} {mX59_writes : Nat → Option Nat} {mX59_count : Nat → Int} {mX59_noted : Nat → Option Nat} {mX59_waitsFor : Nat → Option Nat} {mX59_turn : Nat → Int} {mX59_triple : Nat → Int} {mX59_there : Nat → Int} {mX60_version : Nat → Int} {mX60_there : Nat → Int} {mX60_older : Nat → Option Nat} {mX66_version : Nat → Int} {mX66_count : Nat → Int} {mX66_next : Nat → Option Nat} {sa : Nat → Nat} {so : kSo} {A : Nat → Int → Nat} {gi : Nat → Nat × Int}
theorem CVT_told {post : Int → Prop} {px : Nat → Prop} (hC : 300 ≤ MC) (hS : 5000 ≤ MS) (hsa : tvSa sa) (O : tvOK kd an ai al ar mX5_newest mX5_rows mX5_latest mX5_pins mX5_transactions mX5_count mX5_holders mX5_tripleConflicts mX5_graphConflicts mX5_turns mX5_queue mX5_head mX5_tail mX5_ring mX58_number mX58_sees mX58_state mX59_writes mX59_count mX59_noted mX59_waitsFor mX59_turn mX59_triple mX59_there mX60_version mX60_there mX60_older mX66_version mX66_count mX66_next sa A gi S vr la c wr se pn ps nt rf) (I : tvH S vr la c wr se pn ps) (h1 : ¬ (vtTe la pn se S.st c v ∧ 0 ≤ k ∧ k < 200) → px 1) (hy : vtTe la pn se S.st c v ∧ 0 ≤ k ∧ k < 200 → vtTh vr k v → post 1) (h0 : vtTe la pn se S.st c v ∧ 0 ≤ k ∧ k < 200 → ¬ vtTh vr k v → post 0) : wpVT_X5_told MC MS post px kd an ar mX5_newest mX5_latest mX5_pins mX5_transactions mX5_count mX58_sees mX58_state mX60_version mX60_there mX60_older mX66_version mX66_count mX66_next sa (A 0 0) v k := by
  obtain ⟨⟨G, F, T, R, P, N, ⟨n1, n2, n3⟩, r4⟩, D⟩ := O
  obtain ⟨i1, i2, i3, i4, -⟩ := I
  unfold wpVT_X5_told
  refine ⟨1, 6, ⟨by omega, by omega⟩, CVT_needVersion (by decide) (by decide) G F.2.1 T hsa D.1 P i4 n3 n2 (by omega) (fun w => h1 (fun q => w q.1)) (fun te => ⟨1, 6, ⟨by omega, by omega⟩, CVT_needTriple (by decide) (by decide) (fun w => h1 (fun q => w q.2)) (fun tp => ⟨⟨by omega, by omega⟩, CVT_isThere G F.1 R i3 (by omega) tp (by have := te.2; omega) (fun y => ⟨Or.inr rfl, by omega, by omega, hy ⟨te, tp⟩ y⟩) (fun y => ⟨Or.inl rfl, by omega, by omega, h0 ⟨te, tp⟩ y⟩)⟩)⟩)⟩
theorem CVT_state {post : Int → Prop} {px : Nat → Prop} (hC : 300 ≤ MC) (hS : 5000 ≤ MS) (hso : tvSo so sa) (O : tvOK kd an ai al ar mX5_newest mX5_rows mX5_latest mX5_pins mX5_transactions mX5_count mX5_holders mX5_tripleConflicts mX5_graphConflicts mX5_turns mX5_queue mX5_head mX5_tail mX5_ring mX58_number mX58_sees mX58_state mX59_writes mX59_count mX59_noted mX59_waitsFor mX59_turn mX59_triple mX59_there mX60_version mX60_there mX60_older mX66_version mX66_count mX66_next sa A gi S vr la c wr se pn ps nt rf) (I : tvH S vr la c wr se pn ps) (h1 : ¬ (0 ≤ t ∧ t < c) → px 1) (h0 : 0 ≤ t ∧ t < c → post (S.st t)) : wpVT_X5_state MC MS post px kd an ar mX5_transactions mX5_count mX58_state so (A 0 0) t := by
  obtain ⟨⟨G, F, T, R, P, N, ⟨n1, n2, n3⟩, r4⟩, D⟩ := O
  obtain ⟨i1, i2, i3, i4, -⟩ := I
  unfold wpVT_X5_state
  refine ⟨1, 6, ⟨by omega, by omega⟩, CVT_at (by decide) (by decide) G F.2.1 T n3 (by omega) h1 (fun ht => kOn_some ⟨tvKk G ht, ?_⟩)⟩
  obtain ⟨s1, s2, s3⟩ := D.1 t ht.1 ht.2
  obtain ⟨o1, o2⟩ := hso (S.st t).toNat (by omega)
  refine kOn_of s1 ⟨o1, ⟨by omega, by omega⟩, ?_⟩
  unfold wpVT_J19_ordinal
  rw [o2, show (((S.st t).toNat : Nat) : Int) = S.st t by omega]
  exact ⟨by omega, by omega, h0 ht⟩
theorem CVT_waits {post : Int → Prop} {px : Nat → Prop} (hC : 300 ≤ MC) (hS : 5000 ≤ MS) (hsa : tvSa sa) (O : tvOK kd an ai al ar mX5_newest mX5_rows mX5_latest mX5_pins mX5_transactions mX5_count mX5_holders mX5_tripleConflicts mX5_graphConflicts mX5_turns mX5_queue mX5_head mX5_tail mX5_ring mX58_number mX58_sees mX58_state mX59_writes mX59_count mX59_noted mX59_waitsFor mX59_turn mX59_triple mX59_there mX60_version mX60_there mX60_older mX66_version mX66_count mX66_next sa A gi S vr la c wr se pn ps nt rf) (I : tvH S vr la c wr se pn ps) (h1 : ¬ (0 ≤ t ∧ t < c) → px 1) (h0 : 0 ≤ t ∧ t < c → post (if S.st t = 1 then S.wf t else -1)) : wpVT_X5_waits MC MS post px kd an ar mX5_transactions mX5_count mX58_number mX58_state mX59_waitsFor sa (A 0 0) t := by
  obtain ⟨⟨G, F, T, R, P, N, ⟨n1, n2, n3⟩, r4⟩, D⟩ := O
  obtain ⟨i1, i2, i3, i4, i5, i6, -⟩ := I
  unfold wpVT_X5_waits
  refine ⟨1, 6, ⟨by omega, by omega⟩, CVT_at (by decide) (by decide) G F.2.1 T n3 (by omega) h1 (fun ht => kOn_some ⟨tvKk G ht, fun z z1 z0 => ?_⟩)⟩
  have h0 := h0 ht
  have e1 := D.1.e hsa ht 1 (by decide)
  have wt := i6.1.2.2.1 t ht.1 ht.2
  by_cases hw : wr t = 0
  · have ez : z = 0 := z0 (by rw [tvKr G ht hw]; decide)
    rw [if_neg (fun q => (wt q).2.1 hw)] at h0
    exact ⟨fun _ => ⟨by omega, by omega, h0⟩, fun q => absurd ez q⟩
  · have ez : z = 1 := z1 (tvKw G ht hw)
    refine ⟨fun q => by omega, fun _ => ⟨tvKw G ht hw, fun e => ?_, fun e => ?_⟩⟩
    · have s1 : S.st t = 1 := e1.mp e
      rw [if_pos s1] at h0
      have sb := (i6.1.1.1 t ht.1 ht.2 s1).1
      refine kOn_of (D.2.1 t ht.1 ht.2 s1).1 ⟨tvKw G sb (wt s1).2.2, by omega, by omega, ?_⟩
      rw [(T (S.wf t) sb.1 sb.2).2.1]
      exact h0
    · have s1 : ¬ S.st t = 1 := fun q => e (e1.mpr q)
      rw [if_neg s1] at h0
      exact ⟨by omega, by omega, h0⟩
theorem CVT_ring {post : Int → Prop} (O : tvOK kd an ai al ar mX5_newest mX5_rows mX5_latest mX5_pins mX5_transactions mX5_count mX5_holders mX5_tripleConflicts mX5_graphConflicts mX5_turns mX5_queue mX5_head mX5_tail mX5_ring mX58_number mX58_sees mX58_state mX59_writes mX59_count mX59_noted mX59_waitsFor mX59_turn mX59_triple mX59_there mX60_version mX60_there mX60_older mX66_version mX66_count mX66_next sa A gi S vr la c wr se pn ps nt rf) (hp : post (if 0 ≤ i ∧ i < S.R.length then S.R.getD i.toNat 0 else -1)) : wpVT_X5_ring post kd an ai mX5_ring (A 0 0) i := by
  obtain ⟨⟨G, -⟩, -, -, -, -, -, -, -, r1, r2, r3, r4⟩ := O
  unfold wpVT_X5_ring
  refine ⟨fun a => ?_, fun a => kOn_of r1 ⟨G.k 10 0 rfl, ?_⟩⟩
  · rw [if_neg (by omega)] at hp; exact hp
  · rw [r2]
    refine ⟨by omega, fun b => ?_, fun b => ⟨by omega, ?_⟩⟩
    · rw [if_neg (by omega)] at hp; exact hp
    · rw [if_pos (by omega)] at hp
      have q := r3 i.toNat (by omega)
      rw [show (0 : Int) + ((i.toNat : Nat) : Int) = i by omega] at q
      rw [q]; exact hp
theorem CVT_conflicts {post : Int → Prop} {px : Nat → Prop} (hC : 300 ≤ MC) (hS : 5000 ≤ MS) (O : tvOK kd an ai al ar mX5_newest mX5_rows mX5_latest mX5_pins mX5_transactions mX5_count mX5_holders mX5_tripleConflicts mX5_graphConflicts mX5_turns mX5_queue mX5_head mX5_tail mX5_ring mX58_number mX58_sees mX58_state mX59_writes mX59_count mX59_noted mX59_waitsFor mX59_turn mX59_triple mX59_there mX60_version mX60_there mX60_older mX66_version mX66_count mX66_next sa A gi S vr la c wr se pn ps nt rf) (h1 : ¬ vtCf k i → px 1) (h0 : vtCf k i → post (if k = 0 then S.fl i else rf i)) : wpVT_X5_conflicts MC MS post px kd an ai mX5_tripleConflicts mX5_graphConflicts (A 0 0) k i := by
  obtain ⟨⟨G, F, T, R, P, N, ⟨n1, n2, n3⟩, r4⟩, -, -, -, -, -, -, d7, -⟩ := O
  have f33 : ¬ vtCf k i → wVT_X5_conflicts_33 MC MS post px (A 0 0) k i kd an ai mX5_tripleConflicts mX5_graphConflicts 0 0 := fun w => by
    unfold wVT_X5_conflicts_33
    exact ⟨1, 6, ⟨by omega, by omega⟩, CVT_need (by decide) (by decide) (fun _ => h1 w) (fun q => absurd rfl q)⟩
  have f29 : vtCf k i → wVT_X5_conflicts_29 MC MS post px (A 0 0) k i kd an ai mX5_tripleConflicts mX5_graphConflicts 0 0 := fun w => by
    have H := h0 w
    unfold wVT_X5_conflicts_29
    refine ⟨1, 6, ⟨by omega, by omega⟩, CVT_need (by decide) (by decide) (fun q => absurd q (by decide)) (fun _ => ⟨fun e => ?_, fun e => ?_⟩)⟩
    · rw [if_pos e] at H
      have ib : 0 ≤ i ∧ i < 200 := by
        rcases w with w | w <;> omega
      refine kOn_of F.2.2.2.1 ⟨G.k 4 0 rfl, by rw [G.l 4 0 rfl (by decide)]; exact ib, by omega, by omega, ?_⟩
      rw [d7 i ib.1 ib.2]; exact H
    · rw [if_neg e] at H
      have ib : 0 ≤ i ∧ i < 4 := by
        rcases w with w | w <;> omega
      refine kOn_of F.2.2.2.2.1 ⟨G.k 5 0 rfl, by rw [G.l 5 0 rfl (by decide)]; exact ib, by omega, by omega, ?_⟩
      rw [r4 i ib.1 ib.2]; exact H
  unfold vtCf at f33 f29
  unfold wpVT_X5_conflicts
  exact ⟨fun a => ⟨fun b => ⟨fun d => by omega, fun d => f33 (by omega)⟩, fun b => ⟨fun d => f29 (by omega), fun d => ⟨fun e => by omega, fun e => f33 (by omega)⟩⟩⟩, fun a => ⟨fun b => ⟨fun d => f33 (by omega), fun d => ⟨fun e => f33 (by omega), fun e => f29 (by omega)⟩⟩, fun b => f33 (by omega)⟩⟩
theorem tvB_e {x : Int} (h : 0 ≤ x ∧ x ≤ 2) : (tvB x = 0 ↔ x = 0) ∧ (tvB x = 1 ↔ x = 2) := by
  unfold tvB
  have : x = 0 ∨ x = 1 ∨ x = 2 := by omega
  rcases this with rfl | rfl | rfl <;> decide
theorem CVT_read {post : Int → Prop} {px : Nat → Prop} (hC : 300 ≤ MC) (hS : 5000 ≤ MS) (hsa : tvSa sa) (O : tvOK kd an ai al ar mX5_newest mX5_rows mX5_latest mX5_pins mX5_transactions mX5_count mX5_holders mX5_tripleConflicts mX5_graphConflicts mX5_turns mX5_queue mX5_head mX5_tail mX5_ring mX58_number mX58_sees mX58_state mX59_writes mX59_count mX59_noted mX59_waitsFor mX59_turn mX59_triple mX59_there mX60_version mX60_there mX60_older mX66_version mX66_count mX66_next sa A gi S vr la c wr se pn ps nt rf) (I : tvH S vr la c wr se pn ps) (h1 : ¬ ((0 ≤ t ∧ t < c) ∧ 0 ≤ k ∧ k < 200) → px 1) (h2 : (0 ≤ t ∧ t < c) ∧ 0 ≤ k ∧ k < 200 → ¬ S.st t < 3 → px 2) (hy : (0 ≤ t ∧ t < c) ∧ 0 ≤ k ∧ k < 200 → S.st t < 3 → vtSe vr se S.ws t k → post 1) (h0 : (0 ≤ t ∧ t < c) ∧ 0 ≤ k ∧ k < 200 → S.st t < 3 → ¬ vtSe vr se S.ws t k → post 0) : wpVT_X5_read MC MS post px kd an ai ar mX5_newest mX5_transactions mX5_count mX58_sees mX58_state mX59_writes mX60_version mX60_there mX60_older sa (A 0 0) t k := by
  obtain ⟨⟨G, F, T, R, P, N, ⟨n1, n2, n3⟩, r4⟩, D⟩ := O
  obtain ⟨i1, i2, i3, i4, i5, i6, i7, i8, i9, i10, i11⟩ := I
  unfold wpVT_X5_read
  refine ⟨1, 6, ⟨by omega, by omega⟩, CVT_at (by decide) (by decide) G F.2.1 T n3 (by omega) (fun w => h1 (fun q => w q.1)) (fun ht => ⟨1, 6, ⟨by omega, by omega⟩, CVT_needTriple (by decide) (by decide) (fun w => h1 (fun q => w q.2)) (fun tp => kOn_some ⟨tvKk G ht, ⟨by omega, by omega⟩, CVT_live G hsa D.1 ht (fun lv => ?_) (fun lv => ⟨1, 6, ⟨by omega, by omega⟩, CVT_may (by decide) (by decide) (fun _ => h2 ⟨ht, tp⟩ lv) (fun q => absurd rfl q)⟩)⟩)⟩)⟩
  refine ⟨1, 6, ⟨by omega, by omega⟩, CVT_may (by decide) (by decide) (fun q => absurd q (by decide)) (fun _ => ⟨⟨by omega, by omega⟩, ?_⟩)⟩
  have hy := hy ⟨ht, tp⟩ lv
  have h0 := h0 ⟨ht, tp⟩ lv
  have sb := i5 t ht.1 ht.2
  have T1 := T t ht.1 ht.2
  unfold wpDVT_X59_sees_2_3
  by_cases hw : wr t = 0
  · refine Or.inr ⟨tvKr G ht hw, ?_⟩
    have z := i11 t k ht.1 (Or.inr hw) tp.1 tp.2
    unfold wpVT_X65_sees
    rw [T1.2.2.1]
    exact kOn_some ⟨G.k 0 0 rfl, CVT_isThere G F.1 R i3 (by omega) tp (by omega) (fun y => ⟨Or.inr rfl, Or.inr rfl, by omega, by omega, hy (Or.inr ⟨z, y⟩)⟩) (fun y => ⟨Or.inl rfl, Or.inl rfl, by omega, by omega, h0 (fun w => by
      rcases w with w | w
      · omega
      · exact y w.2)⟩)⟩
  · refine Or.inl ⟨tvKw G ht hw, ?_⟩
    have W := (D.2.2.1 t ht.1 ht.2 hw lv).1 k tp.1 tp.2
    have B := tvB_e (i10 (200 * t + k) (by omega) (by omega))
    unfold wpVT_X59_sees
    rw [T1.2.2.1]
    refine kOn_of (T1.2.2.2 hw).1 ⟨G.k 8 t ⟨ht, hw⟩, by rw [G.l 8 t ⟨ht, hw⟩ (by decide)]; exact tp, ?_⟩
    rw [W]
    refine ⟨fun z => kOn_some ⟨G.k 0 0 rfl, CVT_isThere G F.1 R i3 (by omega) tp (by omega) (fun y => ⟨Or.inr rfl, Or.inr rfl, by omega, by omega, hy (Or.inr ⟨B.1.mp z, y⟩)⟩) (fun y => ⟨Or.inl rfl, Or.inl rfl, by omega, by omega, h0 (fun w => by
      rcases w with w | w
      · have := B.1.mp z; omega
      · exact y w.2)⟩)⟩, fun z => ⟨fun z1 => ⟨Or.inr rfl, by omega, by omega, hy (Or.inl (B.2.mp z1))⟩, fun z1 => ⟨Or.inl rfl, by omega, by omega, h0 (fun w => by
      rcases w with w | w
      · exact z1 (B.2.mpr w)
      · exact z (B.1.mpr w.1))⟩⟩⟩
theorem CVT_writer {post : Option Nat → Prop} {px : Nat → Prop} (hC : 1 ≤ MC) (hS : 6 ≤ MS) (G : LabU (tvK wr) tvL (tvU c wr vr ps) kd an A gi) (ht : 0 ≤ t ∧ t < c) (h2 : wr t = 0 → px 2) (h0 : ¬ wr t = 0 → post (some (A 7 t))) : wpDVT_X59_writer_2_3 MC MS post px kd (A 7 t) := by
  unfold wpDVT_X59_writer_2_3
  by_cases hw : wr t = 0
  · refine Or.inr ⟨tvKr G ht hw, ?_⟩
    unfold wpVT_X58_writer
    exact ⟨by omega, by omega, h2 hw⟩
  · refine Or.inl ⟨tvKw G ht hw, ?_⟩
    unfold wpVT_X59_writer
    exact ⟨by omega, by omega, h0 hw⟩
theorem CVT_needOpen {post : Prop} {px : Nat → Prop} (hC : 1 ≤ MC) (hS : 6 ≤ MS) (G : LabU (tvK wr) tvL (tvU c wr vr ps) kd an A gi) (hsa : tvSa sa) (S : tvSt sa mX58_state A c st) (ht : 0 ≤ t ∧ t < c) (h2 : ¬ st t = 0 → px 2) (h0 : st t = 0 → post) : wpVT_X5_needOpen MC MS post px kd mX58_state sa (some (A 7 t)) := by
  have e0 := S.e hsa ht 0 (by decide)
  unfold wpVT_X5_needOpen
  exact kOn_some ⟨tvKk G ht, fun e => ⟨1, 6, ⟨by omega, by omega⟩, CVT_may (by decide) (by decide) (fun q => absurd q (by decide)) (fun _ => ⟨by omega, by omega, h0 (e0.mp e)⟩)⟩, fun e => ⟨1, 6, ⟨by omega, by omega⟩, CVT_may (by decide) (by decide) (fun _ => h2 (fun q => e (e0.mpr q))) (fun q => absurd rfl q)⟩⟩
/-- a write to an array of numbers that is none of those that move -/
theorem tvOK.nai {b : Nat} {f : Int → Int} {nt' : Int → Int → Int} (O : tvOK kd an ai al ar mX5_newest mX5_rows mX5_latest mX5_pins mX5_transactions mX5_count mX5_holders mX5_tripleConflicts mX5_graphConflicts mX5_turns mX5_queue mX5_head mX5_tail mX5_ring mX58_number mX58_sees mX58_state mX59_writes mX59_count mX59_noted mX59_waitsFor mX59_turn mX59_triple mX59_there mX60_version mX60_there mX60_older mX66_version mX66_count mX66_next sa A gi S vr la c wr se pn ps nt rf) (h : ∀ i j, tvU c wr vr ps i j → i ≠ 9 → A i j ≠ b) (hN : tvGn (va_up ai b f) A c wr nt') : tvOK kd an (va_up ai b f) al ar mX5_newest mX5_rows mX5_latest mX5_pins mX5_transactions mX5_count mX5_holders mX5_tripleConflicts mX5_graphConflicts mX5_turns mX5_queue mX5_head mX5_tail mX5_ring mX58_number mX58_sees mX58_state mX59_writes mX59_count mX59_noted mX59_waitsFor mX59_turn mX59_triple mX59_there mX60_version mX60_there mX60_older mX66_version mX66_count mX66_next sa A gi S vr la c wr se pn ps nt' rf := by
  obtain ⟨⟨G, F, T, R, P, N, n, r4⟩, d1, d2, d3, d4, d5, d6, d7, d8, d9, d10, d11⟩ := O
  refine ⟨⟨G, F, T, R, P, hN, n, fun g a b' => ?_⟩, d1, d2, fun t a b' w s => ⟨fun k p q => ?_, (d3 t a b' w s).2⟩, d4, d5, d6, fun k p q => ?_, d8, d9, ?_, d11⟩
  · rw [va_up_ne _ _ (h 5 0 rfl (by decide))]; exact r4 g a b'
  · rw [va_up_ne _ _ (h 8 t ⟨⟨a, b'⟩, w⟩ (by decide))]; exact (d3 t a b' w s).1 k p q
  · rw [va_up_ne _ _ (h 4 0 rfl (by decide))]; exact d7 k p q
  · rw [va_up_ne _ _ (h 10 0 rfl (by decide))]; exact d10
theorem CVT_note {post : Int → (Nat → Int → Int) → Prop} {px : Nat → (Nat → Int → Int) → Prop} (hC : 300 ≤ MC) (hS : 5000 ≤ MS) (hsa : tvSa sa) (O : tvOK kd an ai al ar mX5_newest mX5_rows mX5_latest mX5_pins mX5_transactions mX5_count mX5_holders mX5_tripleConflicts mX5_graphConflicts mX5_turns mX5_queue mX5_head mX5_tail mX5_ring mX58_number mX58_sees mX58_state mX59_writes mX59_count mX59_noted mX59_waitsFor mX59_turn mX59_triple mX59_there mX60_version mX60_there mX60_older mX66_version mX66_count mX66_next sa A gi S vr la c wr se pn ps nt rf) (I : tvH S vr la c wr se pn ps) (h1 : ¬ ((0 ≤ t ∧ t < c) ∧ 0 ≤ g ∧ g < 4) → px 1 ai) (h2 : (0 ≤ t ∧ t < c) ∧ 0 ≤ g ∧ g < 4 → ¬ (S.st t = 0 ∧ ¬ wr t = 0) → px 2 ai) (h0 : (0 ≤ t ∧ t < c) ∧ 0 ≤ g ∧ g < 4 → (S.st t = 0 ∧ ¬ wr t = 0) → ∀ ai', tvOK kd an (ai') al ar mX5_newest mX5_rows mX5_latest mX5_pins mX5_transactions mX5_count mX5_holders mX5_tripleConflicts mX5_graphConflicts mX5_turns mX5_queue mX5_head mX5_tail mX5_ring mX58_number mX58_sees mX58_state mX59_writes mX59_count mX59_noted mX59_waitsFor mX59_turn mX59_triple mX59_there mX60_version mX60_there mX60_older mX66_version mX66_count mX66_next sa A gi S vr la c wr se pn ps (updI nt t (updI (nt t) g 1)) rf → post (updI (nt t) g 1 0 + updI (nt t) g 1 1 + updI (nt t) g 1 2 + updI (nt t) g 1 3) ai') : wpVT_X5_note MC MS post px kd an ai ar mX5_transactions mX5_count mX58_state mX59_noted sa (A 0 0) t g := by
  obtain ⟨⟨G, F, T, R, P, N, ⟨n1, n2, n3⟩, r4⟩, D⟩ := id O
  obtain ⟨i1, i2, i3, i4, i5, i6, i7, i8, i9, i10, i11⟩ := I
  unfold wpVT_X5_note
  refine ⟨1, 6, ⟨by omega, by omega⟩, CVT_at (by decide) (by decide) G F.2.1 T n3 (by omega) (fun w => h1 (fun q => w q.1)) (fun ht => ?_)⟩
  have bad : ¬ (0 ≤ g ∧ g < 4) → wVT_X5_note_20 MC MS post px g (some (A 7 t)) 0 kd an ai mX58_state mX59_noted sa (0+1) (0+6) := fun w => by
    unfold wVT_X5_note_20
    exact ⟨1, 6, ⟨by omega, by omega⟩, CVT_need (by decide) (by decide) (fun _ => h1 (fun q => w q.2)) (fun q => absurd rfl q)⟩
  refine ⟨fun a => bad (by omega), fun a => ⟨fun b => bad (by omega), fun b => ?_⟩⟩
  have gb : 0 ≤ g ∧ g < 4 := by omega
  unfold wVT_X5_note_20
  refine ⟨1, 6, ⟨by omega, by omega⟩, CVT_need (by decide) (by decide) (fun q => absurd q (by decide)) (fun _ => kOn_some ⟨tvKk G ht, 1, 6, ⟨by omega, by omega⟩, CVT_writer (by decide) (by decide) G ht (fun hw => h2 ⟨ht, gb⟩ (fun q => q.2 hw)) (fun hw => ⟨1, 6, ⟨by omega, by omega⟩, CVT_needOpen (by decide) (by decide) G hsa D.1 ht (fun ho => h2 ⟨ht, gb⟩ (fun q => ho q.1)) (fun ho => ?_)⟩)⟩)⟩
  have T1 := (T t ht.1 ht.2).2.2.2 hw
  have U9 : tvU c wr vr ps 9 t := ⟨ht, hw⟩
  have k9 : kd (A 9 t) = 7 := G.k 9 t U9
  have l9 : an (A 9 t) = 4 := G.l 9 t U9 (by decide)
  refine kOn_some ⟨tvKw G ht hw, kOn_of T1.2 ⟨k9, by rw [l9]; exact gb, fun ai' ea x6 e6 => kOn_of (e6.trans T1.2) ⟨k9, by rw [l9]; decide, fun x7 e7 => ?_⟩⟩⟩
  have hN : tvGn ai' A c wr (updI nt t (updI (nt t) g 1)) := fun t' a b w h p q => by
    by_cases e : t' = t
    · subst e
      rw [ea, va_up_self, updI_s]
      by_cases eh : h = g
      · subst eh; rw [updI_s, updI_s]; exact ⟨rfl, Or.inr rfl⟩
      · rw [updI_n eh, updI_n eh]; exact N t' a b w h p q
    · rw [ea, va_up_ne _ _ (G.ne (i := 9) (i' := 9) ⟨⟨a, b⟩, w⟩ U9 (Or.inr e)), updI_n e]; exact N t' a b w h p q
  have O2 : tvOK kd an (ai') al ar mX5_newest mX5_rows mX5_latest mX5_pins mX5_transactions mX5_count mX5_holders mX5_tripleConflicts mX5_graphConflicts mX5_turns mX5_queue mX5_head mX5_tail mX5_ring mX58_number mX58_sees mX58_state mX59_writes mX59_count mX59_noted mX59_waitsFor mX59_turn mX59_triple mX59_there mX60_version mX60_there mX60_older mX66_version mX66_count mX66_next sa A gi S vr la c wr se pn ps (updI nt t (updI (nt t) g 1)) rf := by
    rw [ea] at hN ⊢
    exact O.nai (fun i j u ne => G.ne u U9 (Or.inl ne)) hN
  have H := h0 ⟨ht, gb⟩ ⟨ho, hw⟩ ai' O2
  have q := hN t ht.1 ht.2 hw
  rw [updI_s] at q
  have q0 := q 0 (by decide) (by decide)
  have q1 := q 1 (by decide) (by decide)
  have q2 := q 2 (by decide) (by decide)
  have q3 := q 3 (by decide) (by decide)
  rw [← q0.1, ← q1.1, ← q2.1, ← q3.1] at H
  rw [← q0.1] at q0
  rw [← q1.1] at q1
  rw [← q2.1] at q2
  rw [← q3.1] at q3
  rw [l9] at e7
  subst e7
  have e6' : x6 = some (A 9 t) := e6.trans T1.2
  have st : ∀ (m : Nat) (x5 x8 : Int), (0 ≤ x5 ∧ x5 < 100) → (0 ≤ x8 ∧ x8 < 4) → (ai' (A 9 t) x8 = 0 ∨ ai' (A 9 t) x8 = 1) → wVT_X5_note_60 MC MS (fun (x5_56 : Int) => ((((0 + 1 + 1) + 1) + 1) ≤ MC ∧ (((0 + 6 + 6) + 6) + 6) ≤ MS ∧ post x5_56 ai')) x6 (((4 : Nat) : Int)) kd an (ai') m (x5 + ai' (A 9 t) x8) (x8 + 1) → wVT_X5_note_60 MC MS (fun (x5_56 : Int) => ((((0 + 1 + 1) + 1) + 1) ≤ MC ∧ (((0 + 6 + 6) + 6) + 6) ≤ MS ∧ post x5_56 ai')) x6 (((4 : Nat) : Int)) kd an (ai') (m + 1) x5 x8 := fun m x5 x8 b5 b8 hv hn => by
    rw [wVT_X5_note_60]
    refine ⟨fun z => by omega, fun _ => kOn_of e6' ⟨k9, by rw [l9]; exact b8, fun x9 e9 => ?_⟩⟩
    rw [← e9] at hv hn
    refine ⟨fun z => ⟨by omega, fun _ f1 => ⟨by omega, fun _ f2 => ?_⟩⟩, fun z => ⟨by omega, fun _ f1 => ⟨by omega, fun _ f2 => ?_⟩⟩⟩
    · rw [f1, f2]; rw [z] at hn; exact hn
    · have : x9 = 1 := by omega
      rw [f1, f2]; rw [this] at hn; exact hn
  refine ⟨5, st 4 0 0 (by decide) (by decide) q0.2 (st 3 _ 1 (by omega) (by decide) q1.2 (st 2 _ 2 (by omega) (by decide) q2.2 (st 1 _ 3 (by omega) (by decide) q3.2 ?_)))⟩
  rw [wVT_X5_note_60]
  refine ⟨fun _ => ⟨by omega, by omega, ?_⟩, fun z => absurd (by decide) z⟩
  rw [Int.zero_add]
  exact H
end

/-! VersionTrans (room VT): pins; begin, look -/
section
variable {c la k v t g i : Int} {wr se st pn pn' rf : Int → Int} {vr nt : Int → Int → Int} {ps ps' : List Int} {S : VS} {MC MS : Nat}
theorem tvPs.up {x : Int} (H : tvPs pn ps) (hv : 0 ≤ v ∧ v < 64) (hx : 0 ≤ x ∧ x ≤ 100000) (h : v ∈ ps) : tvPs (updI pn v x) ps := by
  refine ⟨H.1, fun w a b => ?_, H.2.2⟩
  by_cases e : w = v
  · subst e; rw [updI_s]; exact ⟨hx.1, hx.2, fun _ => h⟩
  · rw [updI_n e]; exact H.2.1 w a b
theorem tvPs.new {x : Int} (H : tvPs pn ps) (hv : 0 ≤ v ∧ v < 64) (hx : 0 ≤ x ∧ x ≤ 100000) (h : v ∉ ps) : tvPs (updI pn v x) (v :: ps) := by
  refine ⟨fun w hw => ?_, fun w a b => ?_, List.nodup_cons.mpr ⟨h, H.2.2⟩⟩
  · rcases List.mem_cons.mp hw with e | e
    · subst e; exact hv
    · exact H.1 w e
  · by_cases e : w = v
    · subst e; rw [updI_s]; exact ⟨hx.1, hx.2, fun _ => List.mem_cons_self⟩
    · rw [updI_n e]
      have := H.2.1 w a b
      exact ⟨this.1, this.2.1, fun q => List.mem_cons_of_mem _ (this.2.2 q)⟩
variable {kd : Nat → Nat} {an : Nat → Nat} {ai : Nat → Int → Int} {al : Nat → Int → Int} {ar : Nat → Int → Option Nat} {mX5_newest : Nat → Option Nat} {mX5_rows : Nat → Int} {mX5_latest : Nat → Int} {mX5_pins : Nat → Option Nat} {mX5_transactions : Nat → Option Nat} {mX5_count : Nat → Int} {mX5_holders : Nat → Option Nat} {mX5_tripleConflicts : Nat → Option Nat} {mX5_graphConflicts : Nat → Option Nat} {mX5_turns : Nat → Int} {mX5_queue : Nat → Option Nat} {mX5_head : Nat → Int} {mX5_tail : Nat → Int} {mX5_ring : Nat → Option Nat} {mX58_number : Nat → Int} {mX58_sees : Nat → Int} {mX58_state : Nat → Option Nat} {mX59_writes : Nat → Option Nat} {mX59_count : Nat → Int} {mX59_noted : Nat → Option Nat} {mX59_waitsFor : Nat → Option Nat} {mX59_turn : Nat → Int} {mX59_triple : Nat → Int} {mX59_there : Nat → Int} {mX60_version : Nat → Int} {mX60_there : Nat → Int} {mX60_older : Nat → Option Nat} {mX66_version : Nat → Int} {mX66_count : Nat → Int} {mX66_next : Nat → Option Nat} {sa : Nat → Nat} {A A' : Nat → Int → Nat} {gi gi' : Nat → Nat × Int}
/-- what moves carries over to new labels -/
theorem tvD.tr {kd' an' : Nat → Nat} {ai' : Nat → Int → Int} {ar' : Nat → Int → Option Nat} {sm' wf' : Nat → Option Nat} {cn' tu' tp' te' : Nat → Int} (D : tvD kd an ai al ar mX5_newest mX5_rows mX5_latest mX5_pins mX5_transactions mX5_count mX5_holders mX5_tripleConflicts mX5_graphConflicts mX5_turns mX5_queue mX5_head mX5_tail mX5_ring mX58_number mX58_sees mX58_state mX59_writes mX59_count mX59_noted mX59_waitsFor mX59_turn mX59_triple mX59_there mX60_version mX60_there mX60_older mX66_version mX66_count mX66_next sa A c wr S) (J : vJ c wr S) (hA : tvA c wr vr ps A A') (h10 : A' 10 0 = A 10 0) (hn : an' (A 10 0) = an (A 10 0)) (a4 : ai' (A 4 0) = ai (A 4 0)) (a10 : ai' (A 10 0) = ai (A 10 0)) (a8 : AgC (tvU c wr vr ps) A 8 ai ai') (r3 : ar' (A 3 0) = ar (A 3 0)) (r6 : ar' (A 6 0) = ar (A 6 0)) (h1 : AgC (tvU c wr vr ps) A 7 mX58_state sm') (h2 : AgC (tvU c wr vr ps) A 7 mX59_waitsFor wf') (h3 : AgC (tvU c wr vr ps) A 7 mX59_count cn') (h4 : AgC (tvU c wr vr ps) A 7 mX59_turn tu') (h5 : AgC (tvU c wr vr ps) A 7 mX59_triple tp') (h6 : AgC (tvU c wr vr ps) A 7 mX59_there te') : tvD (kd') (an') (ai') al (ar') mX5_newest mX5_rows mX5_latest mX5_pins mX5_transactions mX5_count mX5_holders mX5_tripleConflicts mX5_graphConflicts mX5_turns mX5_queue mX5_head mX5_tail mX5_ring mX58_number mX58_sees (sm') mX59_writes (cn') mX59_noted (wf') (tu') (tp') (te') mX60_version mX60_there mX60_older mX66_version mX66_count mX66_next sa A' c wr S := by
  obtain ⟨d1, d2, d3, d4, d5, d6, d7, d8, d9, d10, d11⟩ := D
  obtain ⟨j1, j2, j3, j4, -⟩ := J
  have e0 : A' 0 0 = A 0 0 := hA 0 0 (by decide) rfl
  refine ⟨d1.tr hA h1, d2.tr (fun w a b s => (j1.1 w a b s).1) hA h2 h4 h5 h6, d3.tr hA a8 h3, d4.tr (fun k a b => (j2 k a b).imp id (fun q => q.1)) hA r3, ?_, ?_, fun k a b => ?_, ?_, ?_, ?_, d11⟩
  · rw [e0]; exact d5.tr (fun w q => (j4 w q).1) hA r6
  · rw [e0]; exact d6
  · rw [hA 4 0 (by decide) rfl, a4]; exact d7 k a b
  · rw [e0, h10]; exact d8
  · rw [h10, hn]; exact d9
  · rw [h10, a10]; exact d10
theorem CVT_unpin {post : Int → (Nat → Int) → Prop} {px : Nat → (Nat → Int) → Prop} (hC : 300 ≤ MC) (hS : 5000 ≤ MS) (O : tvOK kd an ai al ar mX5_newest mX5_rows mX5_latest mX5_pins mX5_transactions mX5_count mX5_holders mX5_tripleConflicts mX5_graphConflicts mX5_turns mX5_queue mX5_head mX5_tail mX5_ring mX58_number mX58_sees mX58_state mX59_writes mX59_count mX59_noted mX59_waitsFor mX59_turn mX59_triple mX59_there mX60_version mX60_there mX60_older mX66_version mX66_count mX66_next sa A gi S vr la c wr se pn ps nt rf) (I : tvH S vr la c wr se pn ps) (h1 : ¬ ((0 ≤ v ∧ v < 64) ∧ 0 < pn v) → px 1 mX66_count) (h0 : (0 ≤ v ∧ v < 64) ∧ 0 < pn v → ∀ co', tvOK kd an ai al ar mX5_newest mX5_rows mX5_latest mX5_pins mX5_transactions mX5_count mX5_holders mX5_tripleConflicts mX5_graphConflicts mX5_turns mX5_queue mX5_head mX5_tail mX5_ring mX58_number mX58_sees mX58_state mX59_writes mX59_count mX59_noted mX59_waitsFor mX59_turn mX59_triple mX59_there mX60_version mX60_there mX60_older mX66_version (co') mX66_next sa A gi S vr la c wr se (updI pn v (pn v - 1)) ps nt rf → tvPs (updI pn v (pn v - 1)) ps → post (pn v - 1) co') : wpVT_X5_unpin MC MS post px kd mX5_pins mX66_version mX66_count mX66_next (A 0 0) v := by
  obtain ⟨⟨G, F, T, R, P, N, n, r4⟩, D⟩ := O
  obtain ⟨i1, i2, i3, i4, i5, i6, i7, i8, i9, i10, i11⟩ := I
  unfold wpVT_X5_unpin
  refine ⟨⟨by omega, by omega⟩, CVT_pinOf G P (fun hm => ⟨fun e => absurd e (by simp), fun b eb => ?_⟩) (fun hm => ⟨fun _ => ⟨1, 6, ⟨by omega, by omega⟩, CVT_need (by decide) (by decide) (fun _ => h1 (fun w => hm ((i4.2.1 v w.1.1 w.1.2).2.2 (by omega)))) (fun q => absurd rfl q)⟩, fun b e => absurd e (by simp)⟩)⟩
  have eb' : b = A 12 v := (Option.some.inj eb).symm
  subst eb'
  have vb := i4.1 v hm
  have pb := i4.2.1 v vb.1 vb.2
  have p1 := P.2 v hm
  refine ⟨G.k 12 v hm, ?_⟩
  rw [p1.2]
  refine ⟨fun le => ⟨1, 6, ⟨by omega, by omega⟩, CVT_need (by decide) (by decide) (fun _ => h1 (fun w => by omega)) (fun q => absurd rfl q)⟩, fun le => ⟨1, 6, ⟨by omega, by omega⟩, CVT_need (by decide) (by decide) (fun q => absurd q (by decide)) (fun _ => ⟨by omega, fun _ e1 co' e2 => ⟨by omega, by omega, ?_⟩⟩)⟩⟩
  subst e1 e2
  rw [va_up_self]
  refine h0 ⟨vb, by omega⟩ _ ⟨⟨G, F, T, R, ⟨P.1, fun w hw => ?_⟩, N, n, r4⟩, D⟩ (i4.up vb (by omega) hm)
  by_cases e : w = v
  · subst e; rw [va_up_self, updI_s]; exact ⟨p1.1, rfl⟩
  · rw [va_up_ne _ _ (G.ne (i := 12) (i' := 12) hw hm (Or.inr e)), updI_n e]; exact P.2 w hw
theorem CVT_pin {post : Int → (Nat → Nat) → (Nat → Option Nat) → (Nat → Int) → (Nat → Int) → (Nat → Option Nat) → Prop} {px : Nat → (Nat → Nat) → (Nat → Option Nat) → (Nat → Int) → (Nat → Int) → (Nat → Option Nat) → Prop} (hC : 300 ≤ MC) (hS : 5000 ≤ MS) (hsa : tvSa sa) (O : tvOK kd an ai al ar mX5_newest mX5_rows mX5_latest mX5_pins mX5_transactions mX5_count mX5_holders mX5_tripleConflicts mX5_graphConflicts mX5_turns mX5_queue mX5_head mX5_tail mX5_ring mX58_number mX58_sees mX58_state mX59_writes mX59_count mX59_noted mX59_waitsFor mX59_turn mX59_triple mX59_there mX60_version mX60_there mX60_older mX66_version mX66_count mX66_next sa A gi S vr la c wr se pn ps nt rf) (I : tvH S vr la c wr se pn ps) (hb : ∀ w, 0 ≤ w → w < 64 → pn w < 100000) (h1 : ¬ vtTe la pn se S.st c v → px 1 kd mX5_pins mX66_version mX66_count mX66_next) (h0 : vtTe la pn se S.st c v → 0 ≤ v ∧ v < 64 → ∀ A' gi' ps' kd' pi' ve' co' ne', A' 0 0 = A 0 0 → tvOK (kd') an ai al ar mX5_newest mX5_rows mX5_latest (pi') mX5_transactions mX5_count mX5_holders mX5_tripleConflicts mX5_graphConflicts mX5_turns mX5_queue mX5_head mX5_tail mX5_ring mX58_number mX58_sees mX58_state mX59_writes mX59_count mX59_noted mX59_waitsFor mX59_turn mX59_triple mX59_there mX60_version mX60_there mX60_older (ve') (co') (ne') sa A' gi' S vr la c wr se (updI pn v (pn v + 1)) ps' nt rf → tvPs (updI pn v (pn v + 1)) ps' → post (pn v + 1) kd' pi' ve' co' ne') : wpVT_X5_pin MC MS post px kd an ar mX5_latest mX5_pins mX5_transactions mX5_count mX58_sees mX58_state mX66_version mX66_count mX66_next sa (A 0 0) v := by
  obtain ⟨⟨G, F, T, R, P, N, n, r4⟩, D⟩ := O
  obtain ⟨i1, i2, i3, i4, i5, i6, i7, i8, i9, i10, i11⟩ := I
  unfold wpVT_X5_pin
  refine ⟨1, 6, ⟨by omega, by omega⟩, CVT_needVersion (by decide) (by decide) G F.2.1 T hsa D.1 P i4 n.2.2 n.2.1 (by omega) h1 (fun te => ⟨⟨by omega, by omega⟩, ?_⟩)⟩
  have vb : 0 ≤ v ∧ v < 64 := by
    obtain ⟨⟨m, hm, le⟩, le2⟩ := te
    have : 0 ≤ m := by
      rcases hm.1 with e | ⟨t, ht, _, e⟩ | ⟨k, hk, _, e⟩
      · omega
      · have := i5 t ht.1 ht.2; omega
      · omega
    omega
  have h0 := h0 te vb
  have pb := i4.2.1 v vb.1 vb.2
  have pl := hb v vb.1 vb.2
  refine CVT_pinOf G P (fun hm => ⟨fun e => absurd e (by simp), fun b eb => ?_⟩) (fun hm => ⟨fun _ => ⟨⟨by omega, by omega⟩, fun q hq _ e1 _ e2 _ e3 => ⟨⟨by omega, by omega⟩, ?_⟩⟩, fun b e => absurd e (by simp)⟩)
  · have eb' : b = A 12 v := (Option.some.inj eb).symm
    subst eb'
    have p1 := P.2 v hm
    refine ⟨G.k 12 v hm, ?_⟩
    rw [p1.2]
    refine ⟨by omega, fun _ e1 co' e2 => ⟨by omega, by omega, ?_⟩⟩
    subst e1 e2
    rw [va_up_self]
    refine h0 A gi ps _ _ _ _ _ rfl ⟨⟨G, F, T, R, ⟨P.1, fun w hw => ?_⟩, N, n, r4⟩, D⟩ (i4.up vb (by omega) hm)
    by_cases e : w = v
    · subst e; rw [va_up_self, updI_s]; exact ⟨p1.1, rfl⟩
    · rw [va_up_ne _ _ (G.ne (i := 12) (i' := 12) hw hm (Or.inr e)), updI_n e]; exact P.2 w hw
  · unfold wpVT_X66_init
    intro _ e4 _ e5 _ e6
    subst e1 e2 e3 e4 e5 e6
    rw [va_up_self]
    refine ⟨by omega, fun _ e7 _ e8 => ⟨by omega, by omega, ?_⟩⟩
    subst e7 e8
    rw [va_up_self, va_up_up, va_up_up, va_up_up]
    have pz : pn v = 0 := by
      by_cases e : pn v = 0
      · exact e
      · exact absurd (pb.2.2 e) hm
    have hA : tvA c wr vr ps A (aUp A 12 v q) := fun i j _ u => aUp_n (fun e => by
      obtain ⟨rfl, rfl⟩ := e
      exact hm u)
    have G2 : LabU (tvK wr) tvL (tvU c wr vr (v :: ps)) (va_up kd q 5) an (aUp A 12 v q) (gUp gi q 12 v) := G.new (K' := tvK wr) (U' := tvU c wr vr (v :: ps)) hq 12 v (fun i j u ne => ⟨tvU_m i j u (fun _ h => h) (fun _ h => h) (fun _ h => h) (fun e h => (List.mem_cons.mp h).resolve_left (fun q => ne ⟨e, q⟩)), rfl⟩) (show (5 : Nat) ≠ 0 by decide) (fun _ _ => rfl) (fun h => absurd rfl h)
    have H := h0 (aUp A 12 v q) (gUp gi q 12 v) (v :: ps) (va_up kd q 5) (va_up mX5_pins (A 0 0) (some q)) (va_up mX66_version q v) (va_up mX66_count q (0 + 1)) (va_up mX66_next q (mX5_pins (A 0 0))) (hA 0 0 (by decide) rfl) ⟨⟨G2, F.tr hA, T.tr hA rfl AgC.r AgC.r AgC.r AgC.r, R.tr i3 (by omega) hA rfl AgC.r AgC.r AgC.r, ⟨?_, fun w hw => ?_⟩, N.tr hA AgC.r, ?_, fun g a b => ?_⟩, D.tr (kd' := va_up kd q 5) i6.1 hA (aUp_n (fun e => absurd e.1 (by decide))) rfl rfl rfl AgC.r rfl rfl AgC.r AgC.r AgC.r AgC.r AgC.r AgC.r⟩ (by have := i4.new (x := pn v + 1) vb (by omega) hm; exact this)
    · rw [pz] at H; exact H
    · rw [hA 0 0 (by decide) rfl, va_up_self]
      refine ⟨by rw [aUp_s], ?_⟩
      rw [aUp_s, va_up_self]
      exact tvPl.tr hA (AgC.f G hq) ps _ (fun w h => h) P.1
    · by_cases e : w = v
      · subst e
        rw [aUp_s, va_up_self, va_up_self, updI_s, pz]; exact ⟨rfl, rfl⟩
      · have hw' : w ∈ ps := (List.mem_cons.mp hw).resolve_left e
        have := P.2.tr hA (AgC.f (v := v) G hq) (AgC.f (v := 0 + 1) G hq) w hw'
        rw [updI_n e]; exact this
    · rw [hA 0 0 (by decide) rfl]; exact n
    · rw [hA 5 0 (by decide) rfl]; exact r4 g a b
/-- one more transaction -/
theorem tvTr.ext {ar : Nat → Int → Option Nat} {num sees : Nat → Int} {wrs nos : Nat → Option Nat} {x y : Int} (h : ∀ t, 0 ≤ t → t < c → ar (A 2 0) t = some (A 7 t) ∧ num (A 7 t) = t ∧ sees (A 7 t) = se t ∧ (¬ wr t = 0 → wrs (A 7 t) = some (A 8 t) ∧ nos (A 7 t) = some (A 9 t))) (h1 : ar (A 2 0) c = some (A 7 c) ∧ num (A 7 c) = c ∧ sees (A 7 c) = y ∧ (¬ x = 0 → wrs (A 7 c) = some (A 8 c) ∧ nos (A 7 c) = some (A 9 c))) : tvTr ar num sees wrs nos A (c + 1) (updI wr c x) (updI se c y) := fun t a b => by
  by_cases e : t = c
  · subst e; rw [updI_s, updI_s]; exact h1
  · rw [updI_n e, updI_n e]; exact h t a (by omega)
theorem tvK_c {x : Int} : tvK (updI wr c x) 7 c = if x = 0 then 3 else 2 := by
  show (if updI wr c x c = 0 then 3 else 2) = _
  rw [updI_s]
theorem CVT_begin {post : Int → (Nat → Nat) → (Nat → Nat) → (Nat → Int → Int) → (Nat → Int → Option Nat) → (Nat → Int) → (Nat → Int) → (Nat → Int) → (Nat → Option Nat) → (Nat → Option Nat) → (Nat → Int) → (Nat → Option Nat) → (Nat → Option Nat) → (Nat → Int) → (Nat → Int) → (Nat → Int) → Prop} {px : Nat → (Nat → Nat) → (Nat → Nat) → (Nat → Int → Int) → (Nat → Int → Option Nat) → (Nat → Int) → (Nat → Int) → (Nat → Int) → (Nat → Option Nat) → (Nat → Option Nat) → (Nat → Int) → (Nat → Option Nat) → (Nat → Option Nat) → (Nat → Int) → (Nat → Int) → (Nat → Int) → Prop} (hC : 300 ≤ MC) (hS : 5000 ≤ MS) (O : tvOK kd an ai al ar mX5_newest mX5_rows mX5_latest mX5_pins mX5_transactions mX5_count mX5_holders mX5_tripleConflicts mX5_graphConflicts mX5_turns mX5_queue mX5_head mX5_tail mX5_ring mX58_number mX58_sees mX58_state mX59_writes mX59_count mX59_noted mX59_waitsFor mX59_turn mX59_triple mX59_there mX60_version mX60_there mX60_older mX66_version mX66_count mX66_next sa A gi S vr la c wr se pn ps nt rf) (I : tvH S vr la c wr se pn ps) (hnt : ∀ g, 0 ≤ g → g < 4 → nt c g = 0) (h0 : ∀ A' gi' kd' an' ai' ar' co nu sn sm ws cn no wf tu tp te, A' 0 0 = A 0 0 → tvOK (kd') (an') (ai') al (ar') mX5_newest mX5_rows mX5_latest mX5_pins mX5_transactions co mX5_holders mX5_tripleConflicts mX5_graphConflicts mX5_turns mX5_queue mX5_head mX5_tail mX5_ring nu sn sm ws cn no wf tu tp te mX60_version mX60_there mX60_older mX66_version mX66_count mX66_next sa A' gi' (VS.mk (updI S.st c 0) S.ws (updI S.wf c (-1)) S.wt S.wl S.si S.ck S.ho S.Q S.R S.fl) vr la (c + 1) (updI wr c 1) (updI se c la) pn ps nt rf → post c kd' an' ai' ar' co nu sn sm ws cn no wf tu tp te) : wpVT_X5_begin MC MS post px kd an ai ar mX5_latest mX5_transactions mX5_count mX58_number mX58_sees mX58_state mX59_writes mX59_count mX59_noted mX59_waitsFor mX59_turn mX59_triple mX59_there sa (A 0 0) := by
  obtain ⟨⟨G, F, T, R, P, N, ⟨n1, n2, n3⟩, r4⟩, D⟩ := O
  obtain ⟨i1, i2, i3, i4, i5, i6, i7, i8, i9, i10, i11⟩ := I
  unfold wpVT_X5_begin
  rw [n3]
  refine ⟨fun q => by omega, fun _ => ?_⟩
  unfold wVT_X5_begin_14
  refine ⟨1, 6, ⟨by omega, by omega⟩, CVT_may (by decide) (by decide) (fun q => absurd q (by decide)) (fun _ => ⟨⟨by omega, by omega⟩, fun q hq _ e1 _ e2 _ e3 _ e4 _ e5 _ e6 _ e7 _ e8 _ e9 _ e10 => ⟨2, 204, ⟨by omega, by omega⟩, ?_⟩⟩)⟩
  unfold wpVT_X59_init wpVT_X58_init
  refine ⟨⟨by omega, by omega⟩, fun _ f1 _ f2 _ f3 => ⟨⟨by omega, by omega⟩, fun q8 hq8 _ f4 _ f5 => ⟨⟨by omega, by omega⟩, fun q9 hq9 _ f6 _ f7 => ⟨by omega, by omega, fun hle => ?_⟩⟩⟩⟩
  have n8 : q8 ≠ q := fun e => by rw [e, va_up_self] at hq8; exact absurd hq8 (by decide)
  have k8 : kd q8 = 0 := by rw [va_up_ne _ _ n8] at hq8; exact hq8
  have n98 : q9 ≠ q8 := fun e => by rw [e, va_up_self] at hq9; exact absurd hq9 (by decide)
  have n97 : q9 ≠ q := fun e => by rw [e, va_up_ne _ _ (Ne.symm n8), va_up_self] at hq9; exact absurd hq9 (by decide)
  have k9 : kd q9 = 0 := by rw [va_up_ne _ _ n98, va_up_ne _ _ n97] at hq9; exact hq9
  have nA : ∀ i j, tvU c wr vr ps i j → A i j ≠ q ∧ A i j ≠ q8 ∧ A i j ≠ q9 := fun i j u => ⟨G.fresh hq u, G.fresh k8 u, G.fresh k9 u⟩
  obtain ⟨A', eA⟩ : ∃ A', A' = aUp (aUp (aUp A 7 c q) 8 c q8) 9 c q9 := ⟨_, rfl⟩
  have a7 : A' 7 c = q := by rw [eA, aUp_i (by decide), aUp_i (by decide), aUp_s]
  have a8 : A' 8 c = q8 := by rw [eA, aUp_i (by decide), aUp_s]
  have a9 : A' 9 c = q9 := by rw [eA, aUp_s]
  have hA : tvA c wr vr ps A A' := fun i j _ u => by
    rw [eA, aUp_n, aUp_n, aUp_n]
    · rintro ⟨rfl, rfl⟩; exact absurd u.2 (Int.lt_irrefl _)
    · rintro ⟨rfl, rfl⟩; exact absurd u.1.2 (Int.lt_irrefl _)
    · rintro ⟨rfl, rfl⟩; exact absurd u.1.2 (Int.lt_irrefl _)
  have G1 := G.new (K' := tvK (updI wr c 1)) (U' := fun i j => tvU (c + 1) (updI wr c 1) vr ps i j ∧ ¬ (i = 8 ∧ j = c) ∧ ¬ (i = 9 ∧ j = c)) hq 7 c (an' := an) (fun i j u ne => ⟨tvU_m i j u.1 (fun e h => by
    have : j ≠ c := fun q => ne ⟨e, q⟩
    omega) (fun e h => by
    have hj : j ≠ c := fun q => by
      rcases e with e | e
      · exact u.2.1 ⟨e, q⟩
      · exact u.2.2 ⟨e, q⟩
    rw [updI_n hj] at h
    exact ⟨by omega, h.2⟩) (fun _ h => h) (fun _ h => h), tvK_e i j (fun e => updI_n (fun q => ne ⟨e, q⟩))⟩) (by rw [tvK_c]; decide) (fun _ _ => rfl) (fun h => absurd rfl h)
  rw [tvK_c, if_neg (by decide)] at G1
  have G2 := G1.new (K' := tvK (updI wr c 1)) (U' := fun i j => tvU (c + 1) (updI wr c 1) vr ps i j ∧ ¬ (i = 9 ∧ j = c)) hq8 8 c (an' := va_up an q8 200) (fun i j u ne => ⟨⟨u.1, ne, u.2⟩, rfl⟩) (show (8 : Nat) ≠ 0 by decide) (fun b hb => va_up_ne _ _ hb) (fun _ => va_up_self _ _ _)
  have G3 := G2.new (K' := tvK (updI wr c 1)) (U' := tvU (c + 1) (updI wr c 1) vr ps) hq9 9 c (an' := va_up (va_up an q8 200) q9 4) (fun i j u ne => ⟨⟨u, ne⟩, rfl⟩) (show (7 : Nat) ≠ 0 by decide) (fun b hb => va_up_ne _ _ hb) (fun _ => va_up_self _ _ _)
  rw [← eA] at G3
  have G4 : LabU (tvK (updI wr c 1)) tvL (tvU (c + 1) (updI wr c 1) vr ps) (va_up (va_up (va_up kd q 2) q8 8) q9 7) (va_up (va_up an q8 200) q9 4) A' (gUp (gUp (gUp gi q 7 c) q8 8 c) q9 9 c) := G3
  have e20 : A' 2 0 = A 2 0 := hA 2 0 (by decide) rfl
  rw [n3] at f2
  rw [n2] at f3
  rw [n3]
  refine kOn_of F.2.1 ⟨by rw [← e20]; exact G4.k 2 0 rfl, by rw [← e20, G4.l 2 0 rfl (by decide)]; show 0 ≤ c ∧ c < (60 : Int); omega, fun _ f8 => ⟨by omega, fun _ f9 _ f10 => ?_⟩⟩
  subst f9 f10
  rw [va_up_self]
  refine ⟨by omega, by omega, by omega, ?_⟩
  rw [show c + 1 - 1 = c by omega]
  have ne2 : ∀ i, i ≠ 2 → tvU c wr vr ps i 0 → A i 0 ≠ A 2 0 := fun i h u => G.ne u (i' := 2) (j' := 0) rfl (Or.inl h)
  have Tq := T.tr (ar' := ar) (num' := va_up (va_up mX58_number q 0) q c) (sees' := va_up (va_up mX58_sees q 0) q la) (wrs' := va_up (va_up mX59_writes q none) q (some q8)) (nos' := va_up (va_up mX59_noted q none) q (some q9)) hA rfl ((AgC.f G hq).t (AgC.f G hq)) ((AgC.f G hq).t (AgC.f G hq)) ((AgC.f G hq).t (AgC.f G hq)) ((AgC.f G hq).t (AgC.f G hq))
  have ga8 : ∀ i, AgC (tvU c wr vr ps) A i ai (va_up (va_up ai q8 (fun _ => 0)) q9 (fun _ => 0)) := fun i => (AgC.f G k8).t (AgC.f G k9)
  have Dq := D.tr (vr := vr) (ps := ps) (A' := A') (kd' := kd) (an' := va_up (va_up an q8 200) q9 4) (ai' := va_up (va_up ai q8 (fun _ => 0)) q9 (fun _ => 0)) (ar' := va_up ar (A 2 0) (updI (ar (A 2 0)) c (some q))) (sm' := va_up (va_up mX58_state q none) q (some (sa 5))) (wf' := va_up mX59_waitsFor q none) (cn' := va_up mX59_count q 0) (tu' := va_up mX59_turn q 0) (tp' := va_up mX59_triple q 0) (te' := va_up mX59_there q 0) i6.1 hA (by rw [eA, aUp_i (by decide), aUp_i (by decide), aUp_i (by decide)]) (by rw [va_up_ne _ _ (nA 10 0 rfl).2.2, va_up_ne _ _ (nA 10 0 rfl).2.1]) (ga8 4 0 rfl) (ga8 10 0 rfl) (ga8 8) (va_up_ne _ _ (ne2 3 (by decide) rfl)) (va_up_ne _ _ (ne2 6 (by decide) rfl)) ((AgC.f G hq).t (AgC.f G hq)) (AgC.f G hq) (AgC.f G hq) (AgC.f G hq) (AgC.f G hq) (AgC.f G hq)
  subst e1 e2 e3 e4 e5 e6 e7 e8 e9 e10 f1 f2 f3 f4 f5 f6 f7 f8
  obtain ⟨d1, d2, d3, d4, d5, d6, d7, d8, d9, d10, d11⟩ := Dq
  refine h0 A' _ _ _ _ _ _ _ _ _ _ _ _ _ _ _ _ (hA 0 0 (by decide) rfl) ⟨⟨G4, F.tr hA, tvTr.ext (fun t a b => ?_) ⟨?_, ?_, ?_, fun _ => ⟨?_, ?_⟩⟩, R.tr i3 (by omega) hA (va_up_ne _ _ (ne2 1 (by decide) rfl)) AgC.r AgC.r AgC.r, ⟨?_, P.2.tr hA AgC.r AgC.r⟩, fun t a b w g p q' => ?_, ?_, fun g a b => ?_⟩, fun t a b => ?_, fun t a b s => ?_, fun t a b w s => ?_, d4, d5, d6, d7, d8, d9, d10, d11⟩
  · have := Tq t a b
    rw [e20] at this ⊢
    rw [va_up_self, updI_n (by omega)]; exact this
  · rw [e20, va_up_self, updI_s, a7]
  · rw [a7, va_up_self]
  · rw [a7, va_up_self]
  · rw [a7, a8, va_up_self]
  · rw [a7, a9, va_up_self]
  · rw [hA 0 0 (by decide) rfl]; exact tvPl.tr hA AgC.r ps _ (fun w h => h) P.1
  · by_cases e : t = c
    · subst e; rw [a9, va_up_self, hnt g p q']; exact ⟨rfl, Or.inl rfl⟩
    · rw [updI_n e] at w
      exact (N.tr hA (ga8 9)) t a (by omega) w g p q'
  · rw [hA 0 0 (by decide) rfl, va_up_self]; exact ⟨n1, n2, rfl⟩
  · rw [hA 5 0 (by decide) rfl, ga8 5 0 rfl]; exact r4 g a b
  · show _ = some (sa (5 + (updI S.st c 0 t).toNat)) ∧ 0 ≤ updI S.st c 0 t ∧ updI S.st c 0 t ≤ 4
    by_cases e : t = c
    · subst e; rw [a7, va_up_self, updI_s]; exact ⟨rfl, by decide, by decide⟩
    · rw [updI_n e]; exact d1 t a (by omega)
  · have s : updI S.st c 0 t = 1 := s
    by_cases e : t = c
    · subst e; rw [updI_s] at s; exact absurd s (by decide)
    · rw [updI_n e] at s
      have := d2 t a (by omega) s
      show _ = some (A' 7 (updI S.wf c (-1) t)) ∧ _
      rw [updI_n e]; exact this
  · have s : updI S.st c 0 t < 3 := s
    by_cases e : t = c
    · subst e
      refine ⟨fun k p q' => ?_, ?_⟩
      · rw [a8, va_up_ne _ _ (Ne.symm n98), va_up_self]
        show (0 : Int) = tvB (S.ws (200 * t + k))
        rw [i11 t k a (Or.inl (Int.le_refl _)) p q']; rfl
      · rw [a7, va_up_self]
        show (0 : Int) = vtWs 200 S.ws t
        have hz : ∀ m : Nat, m ≤ 200 → vtWs m S.ws t = 0 := by
          intro m
          induction m with
          | zero => intro _; rfl
          | succ m ih =>
            intro hm
            have z := i11 t m a (Or.inl (Int.le_refl _)) (by omega) (by omega)
            show cntI _ m + pif _ 1 0 = 0
            rw [pif_f (show ¬ 0 < S.ws (200 * t + (m : Int)) by rw [z]; decide)]
            have := ih (by omega)
            unfold vtWs at this
            omega
        exact (hz 200 (Nat.le_refl _)).symm
    · rw [updI_n e] at s w
      exact d3 t a (by omega) w s
end

/-! VersionTrans (room VT): look; free -/
section
variable {c la k v t g i : Int} {wr se st pn pn' rf : Int → Int} {vr nt : Int → Int → Int} {ps ps' : List Int} {S : VS} {MC MS : Nat}
variable {kd : Nat → Nat} {an : Nat → Nat} {ai : Nat → Int → Int} {al : Nat → Int → Int} {ar : Nat → Int → Option Nat} {mX5_newest : Nat → Option Nat} {mX5_rows : Nat → Int} {mX5_latest : Nat → Int} {mX5_pins : Nat → Option Nat} {mX5_transactions : Nat → Option Nat} {mX5_count : Nat → Int} {mX5_holders : Nat → Option Nat} {mX5_tripleConflicts : Nat → Option Nat} {mX5_graphConflicts : Nat → Option Nat} {mX5_turns : Nat → Int} {mX5_queue : Nat → Option Nat} {mX5_head : Nat → Int} {mX5_tail : Nat → Int} {mX5_ring : Nat → Option Nat} {mX58_number : Nat → Int} {mX58_sees : Nat → Int} {mX58_state : Nat → Option Nat} {mX59_writes : Nat → Option Nat} {mX59_count : Nat → Int} {mX59_noted : Nat → Option Nat} {mX59_waitsFor : Nat → Option Nat} {mX59_turn : Nat → Int} {mX59_triple : Nat → Int} {mX59_there : Nat → Int} {mX60_version : Nat → Int} {mX60_there : Nat → Int} {mX60_older : Nat → Option Nat} {mX66_version : Nat → Int} {mX66_count : Nat → Int} {mX66_next : Nat → Option Nat} {sa : Nat → Nat} {A A' : Nat → Int → Nat} {gi gi' : Nat → Nat × Int}
theorem CVT_look {post : Int → (Nat → Nat) → (Nat → Int → Option Nat) → (Nat → Int) → (Nat → Int) → (Nat → Int) → (Nat → Option Nat) → Prop} {px : Nat → (Nat → Nat) → (Nat → Int → Option Nat) → (Nat → Int) → (Nat → Int) → (Nat → Int) → (Nat → Option Nat) → Prop} (hC : 300 ≤ MC) (hS : 5000 ≤ MS) (hsa : tvSa sa) (O : tvOK kd an ai al ar mX5_newest mX5_rows mX5_latest mX5_pins mX5_transactions mX5_count mX5_holders mX5_tripleConflicts mX5_graphConflicts mX5_turns mX5_queue mX5_head mX5_tail mX5_ring mX58_number mX58_sees mX58_state mX59_writes mX59_count mX59_noted mX59_waitsFor mX59_turn mX59_triple mX59_there mX60_version mX60_there mX60_older mX66_version mX66_count mX66_next sa A gi S vr la c wr se pn ps nt rf) (I : tvH S vr la c wr se pn ps) (h1 : ¬ vtTe la pn se S.st c v → px 1 kd ar mX5_count mX58_number mX58_sees mX58_state) (h0 : vtTe la pn se S.st c v → ∀ A' gi' kd' ar' co nu sn sm, A' 0 0 = A 0 0 → tvOK (kd') an ai al (ar') mX5_newest mX5_rows mX5_latest mX5_pins mX5_transactions co mX5_holders mX5_tripleConflicts mX5_graphConflicts mX5_turns mX5_queue mX5_head mX5_tail mX5_ring nu sn sm mX59_writes mX59_count mX59_noted mX59_waitsFor mX59_turn mX59_triple mX59_there mX60_version mX60_there mX60_older mX66_version mX66_count mX66_next sa A' gi' (VS.mk (updI S.st c 0) S.ws (updI S.wf c (-1)) S.wt S.wl S.si S.ck S.ho S.Q S.R S.fl) vr la (c + 1) (updI wr c 0) (updI se c v) pn ps nt rf → post c kd' ar' co nu sn sm) : wpVT_X5_look MC MS post px kd an ar mX5_latest mX5_pins mX5_transactions mX5_count mX58_number mX58_sees mX58_state mX66_version mX66_count mX66_next sa (A 0 0) v := by
  obtain ⟨⟨G, F, T, R, P, N, ⟨n1, n2, n3⟩, r4⟩, D⟩ := O
  obtain ⟨i1, i2, i3, i4, i5, i6, i7, i8, i9, i10, i11⟩ := I
  unfold wpVT_X5_look
  refine ⟨1, 6, ⟨by omega, by omega⟩, CVT_needVersion (by decide) (by decide) G F.2.1 T hsa D.1 P i4 n3 n2 (by omega) h1 (fun te => ?_)⟩
  have h0 := h0 te
  rw [n3]
  refine ⟨fun q => by omega, fun _ => ?_⟩
  unfold wVT_X5_look_19
  refine ⟨1, 6, ⟨by omega, by omega⟩, CVT_may (by decide) (by decide) (fun q => absurd q (by decide)) (fun _ => ⟨⟨by omega, by omega⟩, fun q hq _ e1 _ e2 _ e3 => ⟨⟨by omega, by omega⟩, ?_⟩⟩)⟩
  unfold wpVT_X65_init wpVT_X58_init
  intro _ f1 _ f2 _ f3
  obtain ⟨A', eA⟩ : ∃ A', A' = aUp A 7 c q := ⟨_, rfl⟩
  have a7 : A' 7 c = q := by rw [eA, aUp_s]
  have hA : tvA c wr vr ps A A' := fun i j _ u => by
    rw [eA, aUp_n]
    rintro ⟨rfl, rfl⟩; exact absurd u.2 (Int.lt_irrefl _)
  have G1 := G.new (K' := tvK (updI wr c 0)) (U' := tvU (c + 1) (updI wr c 0) vr ps) hq 7 c (an' := an) (fun i j u ne => ⟨tvU_m i j u (fun e h => by
    have : j ≠ c := fun q => ne ⟨e, q⟩
    omega) (fun e h => by
    by_cases hj : j = c
    · subst hj; rw [updI_s] at h; exact absurd rfl h.2
    · rw [updI_n hj] at h
      exact ⟨by omega, h.2⟩) (fun _ h => h) (fun _ h => h), tvK_e i j (fun e => updI_n (fun q => ne ⟨e, q⟩))⟩) (by rw [tvK_c]; decide) (fun _ _ => rfl) (fun h => absurd rfl h)
  rw [tvK_c, if_pos rfl, ← eA] at G1
  have e20 : A' 2 0 = A 2 0 := hA 2 0 (by decide) rfl
  rw [n3] at f2
  rw [n3]
  refine kOn_of F.2.1 ⟨by rw [← e20]; exact G1.k 2 0 rfl, by rw [← e20, G1.l 2 0 rfl (by decide)]; show 0 ≤ c ∧ c < (60 : Int); omega, fun _ f8 => ⟨by omega, fun _ f9 _ f10 => ?_⟩⟩
  subst f9 f10
  rw [va_up_self]
  refine ⟨by omega, by omega, by omega, ?_⟩
  rw [show c + 1 - 1 = c by omega]
  have ne2 : ∀ i, i ≠ 2 → tvU c wr vr ps i 0 → A i 0 ≠ A 2 0 := fun i h u => G.ne u (i' := 2) (j' := 0) rfl (Or.inl h)
  have Tq := T.tr (ar' := ar) (num' := va_up (va_up mX58_number q 0) q c) (sees' := va_up (va_up mX58_sees q 0) q v) (wrs' := mX59_writes) (nos' := mX59_noted) hA rfl ((AgC.f G hq).t (AgC.f G hq)) ((AgC.f G hq).t (AgC.f G hq)) AgC.r AgC.r
  have Dq := D.tr (vr := vr) (ps := ps) (A' := A') (kd' := kd) (an' := an) (ai' := ai) (ar' := va_up ar (A 2 0) (updI (ar (A 2 0)) c (some q))) (sm' := va_up (va_up mX58_state q none) q (some (sa 5))) (wf' := mX59_waitsFor) (cn' := mX59_count) (tu' := mX59_turn) (tp' := mX59_triple) (te' := mX59_there) i6.1 hA (by rw [eA, aUp_i (by decide)]) rfl rfl rfl AgC.r (va_up_ne _ _ (ne2 3 (by decide) rfl)) (va_up_ne _ _ (ne2 6 (by decide) rfl)) ((AgC.f G hq).t (AgC.f G hq)) AgC.r AgC.r AgC.r AgC.r AgC.r
  subst e1 e2 e3 f1 f2 f3 f8
  obtain ⟨d1, d2, d3, d4, d5, d6, d7, d8, d9, d10, d11⟩ := Dq
  refine h0 A' _ _ _ _ _ _ _ (hA 0 0 (by decide) rfl) ⟨⟨G1, F.tr hA, tvTr.ext (fun t a b => ?_) ⟨?_, ?_, ?_, fun h => absurd rfl h⟩, R.tr i3 (by omega) hA (va_up_ne _ _ (ne2 1 (by decide) rfl)) AgC.r AgC.r AgC.r, ⟨?_, P.2.tr hA AgC.r AgC.r⟩, fun t a b w g p q' => ?_, ?_, fun g a b => ?_⟩, fun t a b => ?_, fun t a b s => ?_, fun t a b w s => ?_, d4, d5, d6, d7, d8, d9, d10, d11⟩
  · have := Tq t a b
    rw [e20] at this ⊢
    rw [va_up_self, updI_n (by omega)]; exact this
  · rw [e20, va_up_self, updI_s, a7]
  · rw [a7, va_up_self]
  · rw [a7, va_up_self]
  · rw [hA 0 0 (by decide) rfl]; exact tvPl.tr hA AgC.r ps _ (fun w h => h) P.1
  · by_cases e : t = c
    · subst e; rw [updI_s] at w; exact absurd rfl w
    · rw [updI_n e] at w
      exact (N.tr hA AgC.r) t a (by omega) w g p q'
  · rw [hA 0 0 (by decide) rfl, va_up_self]; exact ⟨n1, n2, rfl⟩
  · rw [hA 5 0 (by decide) rfl]; exact r4 g a b
  · show _ = some (sa (5 + (updI S.st c 0 t).toNat)) ∧ 0 ≤ updI S.st c 0 t ∧ updI S.st c 0 t ≤ 4
    by_cases e : t = c
    · subst e; rw [a7, va_up_self, updI_s]; exact ⟨rfl, by decide, by decide⟩
    · rw [updI_n e]; exact d1 t a (by omega)
  · have s : updI S.st c 0 t = 1 := s
    by_cases e : t = c
    · subst e; rw [updI_s] at s; exact absurd s (by decide)
    · rw [updI_n e] at s
      have := d2 t a (by omega) s
      show _ = some (A' 7 (updI S.wf c (-1) t)) ∧ _
      rw [updI_n e]; exact this
  · have s : updI S.st c 0 t < 3 := s
    by_cases e : t = c
    · subst e; rw [updI_s] at w; exact absurd rfl w
    · rw [updI_n e] at s w
      exact d3 t a (by omega) w s
/-- how many rows of a triple lie below B -/
noncomputable def tvCo (vr : Int → Int → Int) (k : Int) (B : Nat) : Int := cntI (fun u => ¬ vr k u = 0) B
theorem tvCo_z {B : Nat} (h : ∀ u, u < B → vr k u = 0) : tvCo vr k B = 0 := by
  unfold tvCo
  induction B with
  | zero => rfl
  | succ B ih => unfold cntI; rw [ih (fun u hu => h u (by omega)), pif_f (fun q => q (h B (by omega)))]; rfl
theorem tvCo_s {u B : Int} (h0 : 0 ≤ u) (h : u < B) (n : ¬ vr k u = 0) (hz : ∀ w, u < w → w < B → vr k w = 0) : tvCo vr k B.toNat = tvCo vr k u.toNat + 1 := by
  have key : ∀ d : Nat, u + 1 + d ≤ B → tvCo vr k (u + 1 + d).toNat = tvCo vr k u.toNat + 1 := by
    intro d
    induction d with
    | zero =>
      intro _
      rw [show u + 1 + ((0 : Nat) : Int) = u + 1 by omega]
      exact cntI_t h0 n
    | succ d ih =>
      intro hd
      rw [show u + 1 + ((d + 1 : Nat) : Int) = (u + 1 + d) + 1 by omega]
      unfold tvCo
      rw [cntI_f (by omega) (fun q => q (hz _ (by omega) (by omega)))]
      exact ih (by omega)
  have := key (B - u - 1).toNat (by omega)
  rw [show u + 1 + (((B - u - 1).toNat : Nat) : Int) = B by omega] at this
  exact this
/-- rows behind a free: of triples below N -/
noncomputable def tvFr (vr : Int → Int → Int) (m N : Int) : Int → Int → Int := fun k v => pif (k < N) (vtF vr m k v) (vr k v)
theorem tvFr_0 {m : Int} (hV : tvVr vr la) : tvFr vr m 0 = vr := by
  funext k v
  unfold tvFr
  by_cases h : k < 0
  · rw [pif_t h]
    unfold vtF
    by_cases h2 : vr k v = 0
    · rw [h2]; by_cases g : vtGo vr m k v
      · exact pif_t g
      · exact pif_f g
    · have := (hV k v h2).1; omega
  · exact pif_f h
theorem tvFr_n {m : Int} (hV : tvVr vr la) : tvFr vr m 200 = vtF vr m := by
  funext k v
  unfold tvFr
  by_cases h : k < 200
  · exact pif_t h
  · rw [pif_f h]
    unfold vtF
    by_cases h2 : vr k v = 0
    · rw [h2]; by_cases g : vtGo vr m k v
      · exact (pif_t g).symm
      · exact (pif_f g).symm
    · have := (hV k v h2).1; omega
theorem tvF_V {m : Int} (hV : tvVr vr la) : tvVr (vtF vr m) la := fun k v h => by
  unfold vtF at h ⊢
  by_cases g : vtGo vr m k v
  · rw [pif_t g] at h; exact absurd rfl h
  · rw [pif_f g] at h ⊢; exact hV k v h
end

/-! VersionTrans (room VT): free -/
theorem cntI_add {p : Int → Prop} {a : Nat} : ∀ b : Nat, cntI p (a + b) = cntI p a + cntI (fun x => p (a + x)) b
  | 0 => by show cntI p a = cntI p a + 0; omega
  | b + 1 => by
    show cntI p (a + b) + pif (p ((a + b : Nat) : Int)) 1 0 = cntI p a + (cntI (fun x => p (a + x)) b + pif (p ((a : Int) + (b : Int))) 1 0)
    rw [cntI_add b, show ((a + b : Nat) : Int) = (a : Int) + (b : Int) by omega]
    omega
section
variable {c la k v m x : Int} {wr : Int → Int} {vr V V' : Int → Int → Int} {ps : List Int}
theorem vtN_s (K : Nat) : vtN (64 * K + 64) vr = vtN (64 * K) vr + tvCo vr K 64 := by
  unfold vtN tvCo
  rw [cntI_add 64]
  refine congrArg (fun z => cntI _ (64 * K) + z) (cntI_c (fun i a b => ?_))
  show ¬ vr ((((64 * K : Nat) : Int) + i) / 64) ((((64 * K : Nat) : Int) + i) % 64) = 0 ↔ ¬ vr K i = 0
  rw [show (((64 * K : Nat) : Int) + i) / 64 = K by omega, show (((64 * K : Nat) : Int) + i) % 64 = i by omega]
theorem tvCo_c {B : Nat} (h : ∀ u : Int, 0 ≤ u → u < B → (V k u = 0 ↔ vr k u = 0)) : tvCo V k B = tvCo vr k B := cntI_c (fun u a b => not_congr (h u a b))
theorem vtN_k (h : ∀ k' u, k' ≠ k → V' k' u = V k' u) (hk : 0 ≤ k) : ∀ K : Nat, vtN (64 * K) V' = vtN (64 * K) V + if k < K then tvCo V' k 64 - tvCo V k 64 else 0
  | 0 => by rw [if_neg (by omega)]; rfl
  | K + 1 => by
    rw [show 64 * (K + 1) = 64 * K + 64 by omega, vtN_s, vtN_s, vtN_k h hk K]
    by_cases e : (K : Int) = k
    · rw [if_neg (by omega), if_pos (by omega), e]; omega
    · have e3 : tvCo V' (K : Int) 64 = tvCo V (K : Int) 64 := tvCo_c (fun u _ _ => by rw [h _ _ e])
      rw [e3]
      by_cases e2 : k < (K : Int)
      · rw [if_pos e2, if_pos (by omega)]; omega
      · rw [if_neg e2, if_neg (by omega)]; omega
/-- a triple whose row u is the one that counts in m: what a free leaves of it -/
theorem tvF_at {u : Int} (hu : u ≤ m) (n : ¬ V k u = 0) (hz : ∀ w, u < w → w ≤ m → V k w = 0) : (∀ w, w < u → vtF V m k w = 0) ∧ vtF V m k u = (if V k u = 1 then 0 else V k u) ∧ ∀ w, u < w → vtF V m k w = V k w := by
  refine ⟨fun w hw => pif_t (Or.inl ⟨u, hw, hu, n⟩), ?_, fun w hw => ?_⟩
  · by_cases e : V k u = 1
    · rw [if_pos e]; exact pif_t (Or.inr ⟨hu, e⟩)
    · rw [if_neg e]
      refine pif_f (fun g => ?_)
      rcases g with ⟨w, a, b, d⟩ | ⟨-, g⟩
      · exact d (hz w a b)
      · exact e g
  · by_cases hm : w ≤ m
    · rw [hz w hw hm]
      unfold vtF
      rw [hz w hw hm]
      by_cases g : vtGo V m k w
      · exact pif_t g
      · exact pif_f g
    · refine pif_f (fun g => ?_)
      rcases g with ⟨w', a, b, d⟩ | ⟨g, -⟩
      · omega
      · exact hm g
theorem tvF_no (hz : ∀ w, w ≤ m → V k w = 0) (w : Int) : vtF V m k w = V k w := by
  by_cases g : vtGo V m k w
  · rcases g with ⟨u, a, b, d⟩ | ⟨a, b⟩
    · exact absurd (hz u b) d
    · rw [hz w a] at b; exact absurd b (by decide)
  · exact pif_f g
theorem tvCo_F {u : Int} (hu : 0 ≤ u ∧ u < 64) (n : ¬ V k u = 0) (h1 : ∀ w, w < u → V' k w = 0) (h2 : ∀ w, u < w → V' k w = V k w) : tvCo V k 64 - tvCo V' k 64 = tvCo V k u.toNat + pif (V' k u = 0) 1 0 := by
  have e64 : (64 : Nat) = (u.toNat + 1) + (64 - u.toNat - 1) := by omega
  have a : tvCo V k 64 = tvCo V k u.toNat + 1 + cntI (fun x => ¬ V k (((u.toNat + 1 : Nat) : Int) + x) = 0) (64 - u.toNat - 1) := by
    conv => lhs; rw [e64]
    unfold tvCo
    rw [cntI_add, ← show (u + 1).toNat = u.toNat + 1 by omega, cntI_t (p := fun u => ¬ V k u = 0) hu.1 n]
  have b : tvCo V' k 64 = pif (¬ V' k u = 0) 1 0 + cntI (fun x => ¬ V' k (((u.toNat + 1 : Nat) : Int) + x) = 0) (64 - u.toNat - 1) := by
    conv => lhs; rw [e64]
    unfold tvCo
    rw [cntI_add]
    have z : cntI (fun u => ¬ V' k u = 0) u.toNat = 0 := tvCo_z (vr := V') (fun w hw => h1 w (by omega))
    show cntI (fun u => ¬ V' k u = 0) u.toNat + pif (¬ V' k ((u.toNat : Nat) : Int) = 0) 1 0 + _ = _
    rw [z, show ((u.toNat : Nat) : Int) = u by omega]; omega
  have e : cntI (fun x => ¬ V k (((u.toNat + 1 : Nat) : Int) + x) = 0) (64 - u.toNat - 1) = cntI (fun x => ¬ V' k (((u.toNat + 1 : Nat) : Int) + x) = 0) (64 - u.toNat - 1) := cntI_c (fun x p q => by
    show ¬ V k _ = 0 ↔ ¬ V' k _ = 0
    rw [h2 _ (by omega)])
  have f : (pif (¬ V' k u = 0) 1 0 : Int) + pif (V' k u = 0) 1 0 = 1 := by
    by_cases z : V' k u = 0
    · rw [pif_t z, pif_f (fun q => q z)]; rfl
    · rw [pif_f z, pif_t z]; rfl
  rw [e] at a
  omega
variable {kd : Nat → Nat} {an : Nat → Nat} {ai : Nat → Int → Int} {al : Nat → Int → Int} {ar : Nat → Int → Option Nat} {mX5_newest : Nat → Option Nat} {mX5_rows : Nat → Int} {mX5_latest : Nat → Int} {mX5_pins : Nat → Option Nat} {mX5_transactions : Nat → Option Nat} {mX5_count : Nat → Int} {mX5_holders : Nat → Option Nat} {mX5_tripleConflicts : Nat → Option Nat} {mX5_graphConflicts : Nat → Option Nat} {mX5_turns : Nat → Int} {mX5_queue : Nat → Option Nat} {mX5_head : Nat → Int} {mX5_tail : Nat → Int} {mX5_ring : Nat → Option Nat} {mX58_number : Nat → Int} {mX58_sees : Nat → Int} {mX58_state : Nat → Option Nat} {mX59_writes : Nat → Option Nat} {mX59_count : Nat → Int} {mX59_noted : Nat → Option Nat} {mX59_waitsFor : Nat → Option Nat} {mX59_turn : Nat → Int} {mX59_triple : Nat → Int} {mX59_there : Nat → Int} {mX60_version : Nat → Int} {mX60_there : Nat → Int} {mX60_older : Nat → Option Nat} {mX66_version : Nat → Int} {mX66_count : Nat → Int} {mX66_next : Nat → Option Nat} {sa : Nat → Nat} {A : Nat → Int → Nat} {gi : Nat → Nat × Int}
theorem CVT_f27 {K : Option Nat → Option Nat → Prop} (G : LabU (tvK wr) tvL (tvU c wr vr ps) kd an A gi) (hR : tvRw ar mX60_version mX60_there mX60_older A V) (hU : ∀ k v, ¬ V k v = 0 → tvU c wr vr ps 11 (64 * k + v)) (hV : tvVr V la) (hk : 0 ≤ k ∧ k < 200) (hm : m < 64) (h0 : ∀ o, (∀ u, u ≤ m → V k u = 0) → K o none) (h1 : ∀ o u B, u ≤ m → m < B → ¬ V k u = 0 → (∀ w, u < w → w < B → V k w = 0) → ((o = none ∧ B = 64) ∨ (o = some (A 11 (64 * k + B)) ∧ ¬ V k B = 0)) → K o (some (A 11 (64 * k + u)))) : ∃ fu, wVT_X5_free_27 K m kd mX60_version mX60_older fu none (ar (A 1 0) k) := by
  have key : ∀ (d : Nat) (B : Int) (o r : Option Nat), tvNx A V k B r → m < B → ((o = none ∧ B = 64) ∨ (o = some (A 11 (64 * k + B)) ∧ ¬ V k B = 0)) → B.toNat < d → wVT_X5_free_27 K m kd mX60_version mX60_older d o r := by
    intro d
    induction d with
    | zero => intro B _ _ _ _ _ h; omega
    | succ d ih =>
      intro B o r hN hB ho hd
      rw [wVT_X5_free_27]
      rcases hN with ⟨er, hz⟩ | ⟨u, uB, un, uz, er⟩
      · refine ⟨fun _ => by rw [er]; exact h0 o (fun u hu => hz u (by omega)), fun b e => by rw [er] at e; exact absurd e (by simp)⟩
      · refine ⟨fun e => by rw [er] at e; exact absurd e (by simp), fun b e => ?_⟩
        have eb : b = A 11 (64 * k + u) := by rw [er] at e; exact (Option.some.inj e).symm
        subst eb
        have Vb := hV k u un
        obtain ⟨r1, r2, r3⟩ := hR.2 k u un
        refine ⟨G.k 11 _ (hU k u un), fun le => ?_, fun le _ e2 => ?_⟩
        · rw [r1] at le
          rw [er]; exact h1 o u B le hB un uz ho
        · rw [r1] at le
          rw [e2]
          exact ih u r _ r3 (by omega) (Or.inr ⟨er, un⟩) (by omega)
  exact ⟨_, key _ 64 none _ (hR.1 k hk.1 hk.2) hm (Or.inl ⟨rfl, rfl⟩) (Nat.lt_succ_self _)⟩
theorem CVT_f70 {K : Int → Prop} (G : LabU (tvK wr) tvL (tvU c wr vr ps) kd an A gi) (hR : tvRw ar mX60_version mX60_there mX60_older A V) (hU : ∀ k v, ¬ V k v = 0 → tvU c wr vr ps 11 (64 * k + v)) (hV : tvVr V la) {B : Int} {r : Option Nat} (hN : tvNx A V k B r) (hB : B ≤ 64) (hx : 0 ≤ x ∧ x ≤ 100000) (hp : K (x + tvCo V k B.toNat)) : ∃ fu, wVT_X5_free_70 K kd mX60_older fu x r := by
  have key : ∀ (d : Nat) (B : Int) (y : Int) (r : Option Nat), tvNx A V k B r → B ≤ 64 → (0 ≤ y ∧ y + B ≤ 101000) → K (y + tvCo V k B.toNat) → B.toNat < d → wVT_X5_free_70 K kd mX60_older d y r := by
    intro d
    induction d with
    | zero => intro B _ _ _ _ _ _ h; omega
    | succ d ih =>
      intro B y r hN hB hy hK hd
      rw [wVT_X5_free_70]
      rcases hN with ⟨er, hz⟩ | ⟨u, uB, un, uz, er⟩
      · rw [tvCo_z (fun w hw => hz w (by omega)), Int.add_zero] at hK
        exact ⟨fun _ => hK, fun b e => by rw [er] at e; exact absurd e (by simp)⟩
      · refine ⟨fun e => by rw [er] at e; exact absurd e (by simp), fun b e => ?_⟩
        have eb : b = A 11 (64 * k + u) := by rw [er] at e; exact (Option.some.inj e).symm
        subst eb
        have Vb := hV k u un
        obtain ⟨r1, r2, r3⟩ := hR.2 k u un
        refine ⟨by omega, fun _ e1 => ⟨G.k 11 _ (hU k u un), fun _ e2 => ?_⟩⟩
        rw [e1, e2]
        rw [tvCo_s Vb.2.1.1 uB un uz] at hK
        exact ih u (y + 1) _ r3 (by omega) (by omega) (by rw [show y + 1 + tvCo V k u.toNat = y + (tvCo V k u.toNat + 1) by omega]; exact hK) (by omega)
  exact ⟨_, key _ B x r hN hB (by omega) hp (Nat.lt_succ_self _)⟩
/-- a triple's rows, freed -/
noncomputable def tvV1 (V : Int → Int → Int) (m k : Int) : Int → Int → Int := fun k' v => if k' = k then vtF V m k v else V k' v
end

/-! VersionTrans (room VT): free, all triples -/
section
variable {c la k v m x : Int} {wr se pn rf : Int → Int} {vr V V' nt : Int → Int → Int} {ps : List Int} {S : VS}
theorem tvV1_k : tvV1 V m k k v = vtF V m k v := if_pos rfl
theorem tvV1_n {k' : Int} (h : k' ≠ k) : tvV1 V m k k' v = V k' v := if_neg h
theorem tvV1_V (hV : tvVr V la) : tvVr (tvV1 V m k) la := fun k' v h => by
  by_cases e : k' = k
  · subst e; rw [tvV1_k] at h ⊢; exact tvF_V hV k' v h
  · rw [tvV1_n e] at h ⊢; exact hV k' v h
theorem tvV1_s (h : ¬ tvV1 V m k v x = 0) : tvV1 V m k v x = V v x := by
  by_cases e : v = k
  · subst e
    rw [tvV1_k] at h ⊢
    unfold vtF at h ⊢
    by_cases g : vtGo V m v x
    · rw [pif_t g] at h; exact absurd rfl h
    · exact pif_f g
  · exact tvV1_n e
theorem tvFr_s (h0 : 0 ≤ k) : tvV1 (tvFr vr m k) m k = tvFr vr m (k + 1) := by
  funext k' v
  have ek : ∀ v, tvFr vr m k k v = vr k v := fun v => pif_f (by omega)
  by_cases e : k' = k
  · subst e
    rw [tvV1_k]
    have : tvFr vr m (k' + 1) k' v = vtF vr m k' v := pif_t (by omega)
    rw [this]
    unfold vtF
    rw [ek v]
    refine pif_c ?_
    unfold vtGo
    rw [ek v]
    exact ⟨fun w => w.imp (fun ⟨u, a, b, d⟩ => ⟨u, a, b, by rw [ek] at d; exact d⟩) id, fun w => w.imp (fun ⟨u, a, b, d⟩ => ⟨u, a, b, by rw [ek]; exact d⟩) id⟩
  · rw [tvV1_n e]
    unfold tvFr
    by_cases h : k' < k
    · rw [pif_t h, pif_t (by omega)]
    · rw [pif_f h, pif_f (by omega)]
/-- rows: the counting row's way down is cut -/
theorem tvNx.up {A : Nat → Int → Nat} {B u : Int} {o : Option Nat} (h : tvNx A V k B o) (h1 : ∀ w, u < w → V' k w = V k w) (h2 : u < B) (hu : ¬ V' k u = 0 ∨ ∃ w, u < w ∧ w < B ∧ ¬ V k w = 0) (h3 : V' k u = V k u ∨ V' k u = 0) : tvNx A V' k B o := by
  rcases h with ⟨e, hz⟩ | ⟨w, a, b, d, e⟩
  · rcases hu with hu | ⟨w, p, q, r⟩
    · exact absurd (hz u h2) (by rcases h3 with h3 | h3 <;> omega)
    · exact absurd (hz w q) r
  · by_cases hw : u < w
    · exact Or.inr ⟨w, a, by rw [h1 w hw]; exact b, fun z p q => by rw [h1 z (by omega)]; exact d z p q, e⟩
    · rcases hu with hu | ⟨z, p, q, r⟩
      · have : w = u := by
          by_cases q : w = u
          · exact q
          · exact absurd (d u (by omega) h2) (by rcases h3 with h3 | h3 <;> omega)
        subst this
        exact Or.inr ⟨w, a, hu, fun z p q => by rw [h1 z p]; exact d z p q, e⟩
      · exact absurd (d z (by omega) q) r
variable {kd : Nat → Nat} {an : Nat → Nat} {ai : Nat → Int → Int} {al : Nat → Int → Int} {ar : Nat → Int → Option Nat} {mX5_newest : Nat → Option Nat} {mX5_rows : Nat → Int} {mX5_latest : Nat → Int} {mX5_pins : Nat → Option Nat} {mX5_transactions : Nat → Option Nat} {mX5_count : Nat → Int} {mX5_holders : Nat → Option Nat} {mX5_tripleConflicts : Nat → Option Nat} {mX5_graphConflicts : Nat → Option Nat} {mX5_turns : Nat → Int} {mX5_queue : Nat → Option Nat} {mX5_head : Nat → Int} {mX5_tail : Nat → Int} {mX5_ring : Nat → Option Nat} {mX58_number : Nat → Int} {mX58_sees : Nat → Int} {mX58_state : Nat → Option Nat} {mX59_writes : Nat → Option Nat} {mX59_count : Nat → Int} {mX59_noted : Nat → Option Nat} {mX59_waitsFor : Nat → Option Nat} {mX59_turn : Nat → Int} {mX59_triple : Nat → Int} {mX59_there : Nat → Int} {mX60_version : Nat → Int} {mX60_there : Nat → Int} {mX60_older : Nat → Option Nat} {mX66_version : Nat → Int} {mX66_count : Nat → Int} {mX66_next : Nat → Option Nat} {sa : Nat → Nat} {A : Nat → Int → Nat} {gi : Nat → Nat × Int}
/-- one triple's step: what the rows are behind it, and how many are dropped -/
theorem tvRw.cut {u B : Int} (G : LabU (tvK wr) tvL (tvU c wr vr ps) kd an A gi) (hR : tvRw ar mX60_version mX60_there mX60_older A V) (hU : ∀ k v, ¬ V k v = 0 → tvU c wr vr ps 11 (64 * k + v)) (hV : tvVr V la) (hla : la < 64) (hk : 0 ≤ k ∧ k < 200) (hu : u ≤ m) (hB : m < B) (n : ¬ V k u = 0) (hz : ∀ w, u < w → w < B → V k w = 0) (ar' : Nat → Int → Option Nat) (ol' : Nat → Option Nat)
    (ha : ∀ k', 0 ≤ k' → k' < 200 → k' ≠ k → ar' (A 1 0) k' = ar (A 1 0) k')
    (ho : ∀ k' w, ¬ V k' w = 0 → ¬ (k' = k ∧ (w = u ∨ (w = B ∧ V k u = 1))) → ol' (A 11 (64 * k' + w)) = mX60_older (A 11 (64 * k' + w)))
    (h0 : ol' (A 11 (64 * k + u)) = none)
    (h1 : ¬ V k u = 1 → ar' (A 1 0) k = ar (A 1 0) k)
    (h2 : V k u = 1 → (¬ V k B = 0 ∧ ol' (A 11 (64 * k + B)) = none ∧ ar' (A 1 0) k = ar (A 1 0) k) ∨ (B = 64 ∧ ar' (A 1 0) k = none)) : tvRw ar' mX60_version mX60_there ol' A (tvV1 V m k) := by
  obtain ⟨f1, f2, f3⟩ := tvF_at hu n (fun w a b => hz w a (by omega))
  have e1 : ∀ w, w < u → tvV1 V m k k w = 0 := fun w hw => by rw [tvV1_k]; exact f1 w hw
  have e2 : ∀ w, u < w → tvV1 V m k k w = V k w := fun w hw => by rw [tvV1_k]; exact f3 w hw
  have e3 : tvV1 V m k k u = if V k u = 1 then 0 else V k u := by rw [tvV1_k]; exact f2
  have vu := hV k u n
  have e3' : tvV1 V m k k u = V k u ∨ tvV1 V m k k u = 0 := by rw [e3]; by_cases q : V k u = 1 <;> simp [q]
  refine ⟨fun k' a b => ?_, fun k' w nw => ?_⟩
  · by_cases ek : k' = k
    · subst ek
      by_cases q : V k' u = 1
      · rcases h2 q with ⟨nb, -, er⟩ | ⟨eB, er⟩
        · rw [er]
          have bb := (hV k' B nb).2.1
          exact (hR.1 k' a b).up e2 (by omega) (Or.inr ⟨B, by omega, by omega, nb⟩) e3'
        · rw [er]
          refine Or.inl ⟨rfl, fun w hw => ?_⟩
          by_cases h : w < u
          · exact e1 w h
          · by_cases h' : w = u
            · subst h'; rw [e3, if_pos q]
            · rw [e2 w (by omega)]; exact hz w (by omega) (by omega)
      · rw [h1 q]
        exact (hR.1 k' a b).up e2 (by omega) (Or.inl (by rw [e3, if_neg q]; exact n)) e3'
    · have : tvNx A V k' 64 (ar' (A 1 0) k') := by rw [ha k' a b ek]; exact hR.1 k' a b
      rcases this with ⟨e, z⟩ | ⟨w, p, q, r, s⟩
      · exact Or.inl ⟨e, fun w hw => by rw [tvV1_n ek]; exact z w hw⟩
      · exact Or.inr ⟨w, p, by rw [tvV1_n ek]; exact q, fun y p q => by rw [tvV1_n ek]; exact r y p q, s⟩
  · have ew := tvV1_s nw
    have nV : ¬ V k' w = 0 := by rw [← ew]; exact nw
    obtain ⟨r1, r2, r3⟩ := hR.2 k' w nV
    refine ⟨r1, by rw [ew]; exact r2, ?_⟩
    by_cases ek : k' = k
    · subst ek
      by_cases hw : w = u
      · subst hw; rw [h0]; exact Or.inl ⟨rfl, e1⟩
      · by_cases hw2 : w < u
        · exact absurd (e1 w hw2) nw
        · by_cases hb : w = B ∧ V k' u = 1
          · obtain ⟨rfl, q⟩ := hb
            rcases h2 q with ⟨-, eo, -⟩ | ⟨eB, -⟩
            · rw [eo]
              refine Or.inl ⟨rfl, fun y hy => ?_⟩
              by_cases h : y < u
              · exact e1 y h
              · by_cases h' : y = u
                · subst h'; rw [e3, if_pos q]
                · rw [e2 y (by omega)]; exact hz y (by omega) (by omega)
            · have := (hV k' w nV).2.1; omega
          · rw [ho k' w nV (fun q => q.2.elim hw hb)]
            have wB : B ≤ w := by
              by_cases h : w < B
              · exact absurd (hz w (by omega) h) nV
              · omega
            by_cases q : V k' u = 1
            · have hB2 : B ≠ w := fun e => hb ⟨e.symm, q⟩
              rcases h2 q with ⟨nb, -, -⟩ | ⟨eB, -⟩
              · exact r3.up e2 (by omega) (Or.inr ⟨B, by omega, by omega, nb⟩) e3'
              · have := (hV k' w nV).2.1; omega
            · exact r3.up e2 (by omega) (Or.inl (by rw [e3, if_neg q]; exact n)) e3'
    · rw [ho k' w nV (fun q => ek q.1)]
      rcases r3 with ⟨e, z⟩ | ⟨y, p, q, r, s⟩
      · exact Or.inl ⟨e, fun y hy => by rw [tvV1_n ek]; exact z y hy⟩
      · exact Or.inr ⟨y, p, by rw [tvV1_n ek]; exact q, fun z p q => by rw [tvV1_n ek]; exact r z p q, s⟩
end

/-! VersionTrans (room VT): free, the loop and the call -/
section
variable {c la k v m x : Int} {wr se pn rf : Int → Int} {vr V V' nt : Int → Int → Int} {ps : List Int} {S : VS}
/-- an equation that omega does not see -/
def tvQe (x y : Int) : Prop := x = y
theorem tv_ar1 {a b d n x y : Int} (h : tvQe d (a - b)) (h2 : tvQe b (n + (x + y))) (hy : y = 1) : tvQe (d + x + 1) (a - n) := by unfold tvQe at *; omega
theorem tv_ar2 {a b d n x y : Int} (h : tvQe d (a - b)) (h2 : tvQe b (n + (x + y))) (hy : y = 0) : tvQe (d + x) (a - n) := by unfold tvQe at *; omega
theorem tv_ar3 {a b d : Int} (h : tvQe d (a - b)) (ha : 0 ≤ a ∧ a ≤ 13000) (hb : 0 ≤ b ∧ b ≤ 13000) (h0 : 0 ≤ d) : 0 ≤ d ∧ d ≤ 13000 := by unfold tvQe at h; omega
theorem tv_ar5 {a b : Int} : a - (a - b) = b := by omega
theorem tv_ar6 {a : Int} (h : 0 ≤ a ∧ a ≤ 13000) : zR a := by omega
theorem tvU_lo {V : Int → Int → Int} (hV : ∀ k v, ¬ V k v = 0 → V k v = vr k v) (hb : tvVr V la) (hla : la < 64) (h : ¬ V k v = 0) : tvU c wr vr ps 11 (64 * k + v) := by
  have := hb k v h
  show ¬ vr ((64 * k + v) / 64) ((64 * k + v) % 64) = 0
  rw [show (64 * k + v) / 64 = k by omega, show (64 * k + v) % 64 = v by omega, ← hV k v h]; exact h
theorem tvV1_N {u : Int} (hV : tvVr V la) (hla : la < 64) (hk : 0 ≤ k ∧ k < 200) (hu : u ≤ m) (n : ¬ V k u = 0) (hz : ∀ w, u < w → w ≤ m → V k w = 0) : vtN 12800 V = vtN 12800 (tvV1 V m k) + (tvCo V k u.toNat + pif (V k u = 1) 1 0) := by
  obtain ⟨f1, f2, f3⟩ := tvF_at hu n hz
  have vb := (hV k u n).2.1
  have a := vtN_k (V := V) (V' := tvV1 V m k) (fun k' u h => tvV1_n h) hk.1 200
  rw [if_pos (by omega), show 64 * 200 = 12800 from rfl] at a
  have b := tvCo_F (V := V) (V' := tvV1 V m k) (by omega) n (fun w h => by rw [tvV1_k]; exact f1 w h) (fun w h => by rw [tvV1_k]; exact f3 w h)
  have e : (pif (tvV1 V m k k u = 0) 1 0 : Int) = pif (V k u = 1) 1 0 := pif_c (by
    rw [tvV1_k, f2]
    by_cases q : V k u = 1
    · rw [if_pos q]; exact ⟨fun _ => q, fun _ => rfl⟩
    · rw [if_neg q]; exact ⟨fun h => absurd h n, fun h => absurd h q⟩)
  rw [e] at b
  omega
variable {kd : Nat → Nat} {an : Nat → Nat} {ai : Nat → Int → Int} {al : Nat → Int → Int} {ar : Nat → Int → Option Nat} {mX5_newest : Nat → Option Nat} {mX5_rows : Nat → Int} {mX5_latest : Nat → Int} {mX5_pins : Nat → Option Nat} {mX5_transactions : Nat → Option Nat} {mX5_count : Nat → Int} {mX5_holders : Nat → Option Nat} {mX5_tripleConflicts : Nat → Option Nat} {mX5_graphConflicts : Nat → Option Nat} {mX5_turns : Nat → Int} {mX5_queue : Nat → Option Nat} {mX5_head : Nat → Int} {mX5_tail : Nat → Int} {mX5_ring : Nat → Option Nat} {mX58_number : Nat → Int} {mX58_sees : Nat → Int} {mX58_state : Nat → Option Nat} {mX59_writes : Nat → Option Nat} {mX59_count : Nat → Int} {mX59_noted : Nat → Option Nat} {mX59_waitsFor : Nat → Option Nat} {mX59_turn : Nat → Int} {mX59_triple : Nat → Int} {mX59_there : Nat → Int} {mX60_version : Nat → Int} {mX60_there : Nat → Int} {mX60_older : Nat → Option Nat} {mX66_version : Nat → Int} {mX66_count : Nat → Int} {mX66_next : Nat → Option Nat} {sa : Nat → Nat} {A : Nat → Int → Nat} {gi : Nat → Nat × Int}
theorem CVT_f9 {K : Int → (Nat → Int → Option Nat) → (Nat → Option Nat) → Prop} (G : LabU (tvK wr) tvL (tvU c wr vr ps) kd an A gi) (F : mX5_newest (A 0 0) = some (A 1 0)) (hR : tvRw ar mX60_version mX60_there mX60_older A vr) (hV : tvVr vr la) (hla : la < 64) (hm : m < 64) (hp : ∀ ar' ol', tvRw ar' mX60_version mX60_there ol' A (vtF vr m) → (∀ i, i ≠ 1 → tvU c wr vr ps i 0 → ar' (A i 0) = ar (A i 0)) → K (vtN 12800 vr - vtN 12800 (vtF vr m)) ar' ol') : ∃ fu, wVT_X5_free_9 K (A 0 0) m kd an mX5_newest mX60_version mX60_there fu 0 0 ar mX60_older := by
  refine wl4 (fun f d i ar' ol' => wVT_X5_free_9 K (A 0 0) m kd an mX5_newest mX60_version mX60_there f d i ar' ol') (fun d i ar' ol' => (0 ≤ i ∧ i ≤ 200) ∧ (0 ≤ d ∧ tvQe d (vtN 12800 vr - vtN 12800 (tvFr vr m i))) ∧ tvRw ar' mX60_version mX60_there ol' A (tvFr vr m i) ∧ (∀ k v, ¬ tvFr vr m i k v = 0 → tvFr vr m i k v = vr k v) ∧ tvVr (tvFr vr m i) la ∧ ∀ i, i ≠ 1 → tvU c wr vr ps i 0 → ar' (A i 0) = ar (A i 0)) (fun d i _ _ => (200 - i).toNat) ?_ 0 0 ar mX60_older ⟨by decide, ⟨by decide, by rw [tvFr_0 hV]; exact (Int.sub_self _).symm⟩, by rw [tvFr_0 hV]; exact hR, by rw [tvFr_0 hV]; exact fun _ _ _ => rfl, by rw [tvFr_0 hV]; exact hV, fun _ _ _ => rfl⟩
  rintro d i ar' ol' ⟨hi, ⟨d0, hd⟩, hR', hs, hV', hk'⟩ f ih
  have db := tv_ar3 hd vtN_le vtN_le d0
  rw [wVT_X5_free_9]
  refine ⟨fun z => ?_, fun z => kOn_of F ⟨G.k 1 0 rfl, by rw [G.l 1 0 rfl (by decide)]; show 0 ≤ i ∧ i < (200 : Int); omega, fun r er => ?_⟩⟩
  · have e : i = 200 := by omega
    subst e
    have hd' : d = vtN 12800 vr - vtN 12800 (tvFr vr m 200) := hd
    rw [hd', tvFr_n hV]
    rw [tvFr_n hV] at hR'
    exact hp ar' ol' hR' hk'
  · have ib : 0 ≤ i ∧ i < 200 := by omega
    obtain ⟨V, eV⟩ : ∃ V, V = tvFr vr m i := ⟨_, rfl⟩
    have eN : tvFr vr m (i + 1) = tvV1 V m i := by rw [eV]; exact (tvFr_s hi.1).symm
    rw [← eV] at hd hR' hs hV'
    have hU : ∀ k v, ¬ V k v = 0 → tvU c wr vr ps 11 (64 * k + v) := fun k v h => tvU_lo hs hV' hla h
    have sub1 : ∀ k v, ¬ tvV1 V m i k v = 0 → tvV1 V m i k v = vr k v := fun k v h => by
      have := tvV1_s h
      rw [this] at h ⊢
      exact hs k v h
    have go : ∀ (ar2 : Nat → Int → Option Nat) (ol2 : Nat → Option Nat) (d2 : Int), tvRw ar2 mX60_version mX60_there ol2 A (tvV1 V m i) → (∀ i, i ≠ 1 → tvU c wr vr ps i 0 → ar2 (A i 0) = ar (A i 0)) → (0 ≤ d2 ∧ tvQe d2 (vtN 12800 vr - vtN 12800 (tvV1 V m i))) → wVT_X5_free_9 K (A 0 0) m kd an mX5_newest mX60_version mX60_there f d2 (i + 1) ar2 ol2 := fun ar2 ol2 d2 h1 h2 h3 => ih d2 (i + 1) ar2 ol2 ⟨by omega, ⟨h3.1, by rw [eN]; exact h3.2⟩, by rw [eN]; exact h1, by rw [eN]; exact sub1, by rw [eN]; exact tvV1_V hV', h2⟩ (by omega)
    rw [er]
    refine CVT_f27 (ar := ar') (mX60_older := ol') G hR' hU hV' ib hm (fun o hz => ⟨fun _ => ⟨by omega, fun _ e3 => ?_⟩, fun b e => absurd e (by simp)⟩) (fun o u B hu hB n hz ho => ⟨fun e => absurd e (by simp), fun b eb => ?_⟩)
    · rw [e3]
      have e1 : tvV1 V m i = V := by
        funext k' w
        by_cases e : k' = i
        · subst e; rw [tvV1_k]; exact tvF_no hz w
        · exact tvV1_n e
      exact go ar' ol' d (by rw [e1]; exact hR') hk' ⟨d0, by rw [e1]; exact hd⟩
    · have eb' : b = A 11 (64 * i + u) := (Option.some.inj eb).symm
      subst eb'
      have vu := hV' i u n
      obtain ⟨r1, r2, r3⟩ := hR'.2 i u n
      refine ⟨G.k 11 _ (hU i u n), fun x6 e6 => ?_⟩
      rw [e6]
      have co := cntI_b (fun w => ¬ V i w = 0) u.toNat
      have co' : 0 ≤ tvCo V i u.toNat ∧ tvCo V i u.toNat ≤ u.toNat := co
      have nN : tvQe (vtN 12800 V) (vtN 12800 (tvV1 V m i) + (tvCo V i u.toNat + pif (V i u = 1) 1 0)) := tvV1_N (m := m) hV' hla ib hu n (fun w a b => hz w a (by omega))
      refine CVT_f70 (mX60_older := ol') G hR' hU hV' r3 (by omega) (by omega) (kOn_some ⟨G.k 11 _ (hU i u n), fun ol2 e2 => ?_⟩)
      have neu : ∀ k' w, ¬ V k' w = 0 → ¬ (k' = i ∧ w = u) → A 11 (64 * k' + w) ≠ A 11 (64 * i + u) := fun k' w h ne => G.ne (hU k' w h) (hU i u n) (Or.inr (fun e => ne (by have := hV' k' w h; omega)))
      rw [r2]
      refine ⟨fun z0 => ⟨by omega, fun d2 ed2 => ⟨fun eo => kOn_of F ⟨G.k 1 0 rfl, by rw [G.l 1 0 rfl (by decide)]; exact ib, fun ar2 ea2 => ⟨by omega, fun _ e3 => ?_⟩⟩, fun b34 eb34 => ?_⟩⟩, fun z0 => ⟨by omega, fun _ e3 => ?_⟩⟩
      · have q1 : V i u = 1 := by
          by_cases h : V i u = 2
          · rw [if_pos h] at z0; exact absurd z0 (by decide)
          · have := vu.2.2; omega
        have hB64 : B = 64 := by
          rcases ho with h | h
          · exact h.2
          · rw [h.1] at eo; exact absurd eo (by simp)
        have ar1 := tv_ar1 hd nN (pif_t q1)
        rw [e3, ea2, ed2]
        refine go _ _ _ (tvRw.cut (ar := ar') (mX60_older := ol') G hR' hU hV' hla ib hu hB n hz _ _ (fun k' a b h => ?_) (fun k' w h h2 => ?_) ?_ (fun q => absurd q1 q) (fun _ => Or.inr ⟨hB64, ?_⟩)) (fun j hj u2 => ?_) ⟨by omega, ar1⟩
        · rw [va_up_self, updI_n h]
        · rw [e2, va_up_ne _ _ (neu k' w h (fun q => h2 ⟨q.1, Or.inl q.2⟩))]
        · rw [e2, va_up_self]
        · rw [va_up_self, updI_s]
        · rw [va_up_ne _ _ (G.ne u2 (i' := 1) (j' := 0) rfl (Or.inl hj))]; exact hk' j hj u2
      · have q1 : V i u = 1 := by
          by_cases h : V i u = 2
          · rw [if_pos h] at z0; exact absurd z0 (by decide)
          · have := vu.2.2; omega
        rcases ho with h | ⟨h, nb⟩
        · rw [h.1] at eb34; exact absurd eb34 (by simp)
        rw [h] at eb34
        have eb' : b34 = A 11 (64 * i + B) := (Option.some.inj eb34).symm
        subst eb'
        have ar1 := tv_ar1 hd nN (pif_t q1)
        refine ⟨G.k 11 _ (hU i B nb), fun ol3 eo3 => ⟨by omega, fun _ e3 => ?_⟩⟩
        rw [e3, ed2]
        have neB : ∀ k' w, ¬ V k' w = 0 → ¬ (k' = i ∧ w = B) → A 11 (64 * k' + w) ≠ A 11 (64 * i + B) := fun k' w h ne => G.ne (hU k' w h) (hU i B nb) (Or.inr (fun e => ne (by have := hV' k' w h; have := hV' i B nb; omega)))
        refine go _ _ _ (tvRw.cut (ar := ar') (mX60_older := ol') G hR' hU hV' hla ib hu hB n hz _ _ (fun k' a b h => rfl) (fun k' w h h2 => ?_) ?_ (fun q => absurd q1 q) (fun _ => Or.inl ⟨nb, ?_, rfl⟩)) hk' ⟨by omega, ar1⟩
        · rw [eo3, va_up_ne _ _ (neB k' w h (fun q => h2 ⟨q.1, Or.inr ⟨q.2, q1⟩⟩)), e2, va_up_ne _ _ (neu k' w h (fun q => h2 ⟨q.1, Or.inl q.2⟩))]
        · rw [eo3, va_up_ne _ _ (neB i u n (fun q => by omega)), e2, va_up_self]
        · rw [eo3, va_up_self]
      · have q1 : ¬ V i u = 1 := fun h => z0 (by rw [h]; rfl)
        have ar1 := tv_ar2 hd nN (pif_f q1)
        rw [e3]
        refine go _ _ _ (tvRw.cut (ar := ar') (mX60_older := ol') G hR' hU hV' hla ib hu hB n hz _ _ (fun k' a b h => rfl) (fun k' w h h2 => ?_) ?_ (fun _ => rfl) (fun q => absurd q q1)) hk' ⟨by omega, ar1⟩
        · rw [e2, va_up_ne _ _ (neu k' w h (fun q => h2 ⟨q.1, Or.inl q.2⟩))]
        · rw [e2, va_up_self]
theorem CVT_free {post : Int → (Nat → Int → Option Nat) → (Nat → Int) → (Nat → Option Nat) → Prop} (hsa : tvSa sa) (O : tvOK kd an ai al ar mX5_newest mX5_rows mX5_latest mX5_pins mX5_transactions mX5_count mX5_holders mX5_tripleConflicts mX5_graphConflicts mX5_turns mX5_queue mX5_head mX5_tail mX5_ring mX58_number mX58_sees mX58_state mX59_writes mX59_count mX59_noted mX59_waitsFor mX59_turn mX59_triple mX59_there mX60_version mX60_there mX60_older mX66_version mX66_count mX66_next sa A gi S vr la c wr se pn ps nt rf) (I : tvH S vr la c wr se pn ps) (hp : ∀ m, vtLk la pn se S.st c m → ∀ ar' ro' ol', tvOK kd an ai al (ar') mX5_newest (ro') mX5_latest mX5_pins mX5_transactions mX5_count mX5_holders mX5_tripleConflicts mX5_graphConflicts mX5_turns mX5_queue mX5_head mX5_tail mX5_ring mX58_number mX58_sees mX58_state mX59_writes mX59_count mX59_noted mX59_waitsFor mX59_turn mX59_triple mX59_there mX60_version mX60_there (ol') mX66_version mX66_count mX66_next sa A gi S (vtF vr m) la c wr se pn ps nt rf → post (vtN 12800 vr - vtN 12800 (vtF vr m)) ar' ro' ol') : wpVT_X5_free post kd an ar mX5_newest mX5_rows mX5_latest mX5_pins mX5_transactions mX5_count mX58_sees mX58_state mX60_version mX60_there mX60_older mX66_version mX66_count mX66_next sa (A 0 0) := by
  obtain ⟨⟨G, F, T, R, P, N, ⟨n1, n2, n3⟩, r4⟩, d1, d2, d3, d4, d5, d6, d7, d8, d9, d10, d11⟩ := O
  obtain ⟨i1, i2, i3, i4, i5, i6, i7, i8, i9, i10, i11⟩ := I
  unfold wpVT_X5_free
  refine CVT_least G F.2.1 T hsa d1 P i4 n3 n2 (by omega) (fun m hm => ?_)
  have ml := hm.2.1
  refine CVT_f9 G F.1 R i3 (by omega) (by omega) (fun ar' ol' hR ha => ?_)
  rw [n1]
  have e9 : vtN 12800 vr - (vtN 12800 vr - vtN 12800 (vtF vr m)) = vtN 12800 (vtF vr m) := tv_ar5
  rw [e9]
  refine ⟨tv_ar6 vtN_le, fun _ e1 ro' e2 => ?_⟩
  refine hp m hm ar' ro' ol' ⟨⟨G.mono (fun i j u => ⟨tvU_m i j u (fun _ h => h) (fun _ h => h) (fun _ h q => h (by
    unfold vtF
    rw [q]
    by_cases g : vtGo vr m (j / 64) (j % 64)
    · exact pif_t g
    · exact pif_f g)) (fun _ h => h), rfl⟩), F, fun t a b => ?_, hR, P, N, ⟨?_, n2, n3⟩, r4⟩, d1, d2, d3, fun k a b => ?_, ⟨d5.1, d5.2.1, d5.2.2.1, fun i hi => ?_⟩, d6, d7, d8, d9, d10, d11⟩
  · rw [ha 2 (by decide) rfl]; exact T t a b
  · rw [e2, va_up_self, e1]
  · rw [ha 3 (by decide) rfl]; exact d4 k a b
  · rw [ha 6 (by decide) rfl]; exact d5.2.2.2 i hi
end

/-! VersionTrans (room VT): one ends -/
section
variable {c la k v t l x : Int} {wr se pn rf st wf si ho : Int → Int} {vr nt : Int → Int → Int} {ps : List Int} {S : VS}
theorem tvQ.push {ar : Nat → Int → Option Nat} {A : Nat → Int → Nat} {h tl : Int} {Q : List Int} (H : tvQ ar h tl A Q) (hl : Q.length + 1 < 3600) : tvQ (va_up ar (A 6 0) (updI (ar (A 6 0)) tl (some (A 7 x)))) h ((tl + 1) % 3600) A (Q ++ [x]) := by
  obtain ⟨q1, q2, q3, q4⟩ := H
  refine ⟨q1, by rw [List.length_append, List.length_singleton]; exact hl, by rw [List.length_append, List.length_singleton]; omega, fun i hi => ?_⟩
  rw [List.length_append, List.length_singleton] at hi
  rw [va_up_self]
  by_cases e : i < Q.length
  · rw [updI_n (by omega), q4 i e]
    simp [List.getD_eq_getElem?_getD, List.getElem?_append_left e]
  · have ei : i = Q.length := by omega
    subst ei
    rw [← q3, updI_s]
    simp [List.getD_eq_getElem?_getD]
variable {kd : Nat → Nat} {an : Nat → Nat} {ai : Nat → Int → Int} {al : Nat → Int → Int} {ar : Nat → Int → Option Nat} {mX5_newest : Nat → Option Nat} {mX5_rows : Nat → Int} {mX5_latest : Nat → Int} {mX5_pins : Nat → Option Nat} {mX5_transactions : Nat → Option Nat} {mX5_count : Nat → Int} {mX5_holders : Nat → Option Nat} {mX5_tripleConflicts : Nat → Option Nat} {mX5_graphConflicts : Nat → Option Nat} {mX5_turns : Nat → Int} {mX5_queue : Nat → Option Nat} {mX5_head : Nat → Int} {mX5_tail : Nat → Int} {mX5_ring : Nat → Option Nat} {mX58_number : Nat → Int} {mX58_sees : Nat → Int} {mX58_state : Nat → Option Nat} {mX59_writes : Nat → Option Nat} {mX59_count : Nat → Int} {mX59_noted : Nat → Option Nat} {mX59_waitsFor : Nat → Option Nat} {mX59_turn : Nat → Int} {mX59_triple : Nat → Int} {mX59_there : Nat → Int} {mX60_version : Nat → Int} {mX60_there : Nat → Int} {mX60_older : Nat → Option Nat} {mX66_version : Nat → Int} {mX66_count : Nat → Int} {mX66_next : Nat → Option Nat} {sa : Nat → Nat} {A : Nat → Int → Nat} {gi : Nat → Nat × Int}
theorem tvE.nai {b : Nat} {f : Int → Int} (E : tvE kd an ai al ar mX5_newest mX5_rows mX5_latest mX5_pins mX5_transactions mX5_count mX5_holders mX5_tripleConflicts mX5_graphConflicts mX5_turns mX5_queue mX5_head mX5_tail mX5_ring mX58_number mX58_sees mX58_state mX59_writes mX59_count mX59_noted mX59_waitsFor mX59_turn mX59_triple mX59_there mX60_version mX60_there mX60_older mX66_version mX66_count mX66_next A gi vr la c wr se pn ps nt rf) (h : ∀ i j, tvU c wr vr ps i j → (i = 5 ∨ i = 9) → A i j ≠ b) : tvE kd an (va_up ai b f) al ar mX5_newest mX5_rows mX5_latest mX5_pins mX5_transactions mX5_count mX5_holders mX5_tripleConflicts mX5_graphConflicts mX5_turns mX5_queue mX5_head mX5_tail mX5_ring mX58_number mX58_sees mX58_state mX59_writes mX59_count mX59_noted mX59_waitsFor mX59_turn mX59_triple mX59_there mX60_version mX60_there mX60_older mX66_version mX66_count mX66_next A gi vr la c wr se pn ps nt rf := by
  obtain ⟨G, F, T, R, P, N, n, r4⟩ := E
  refine ⟨G, F, T, R, P, fun t a b w g p q => ?_, n, fun g p q => ?_⟩
  · rw [va_up_ne _ _ (h 9 t ⟨⟨a, b⟩, w⟩ (Or.inr rfl))]; exact N t a b w g p q
  · rw [va_up_ne _ _ (h 5 0 rfl (Or.inl rfl))]; exact r4 g p q
theorem tvE.nar {b : Nat} {f : Int → Option Nat} (E : tvE kd an ai al ar mX5_newest mX5_rows mX5_latest mX5_pins mX5_transactions mX5_count mX5_holders mX5_tripleConflicts mX5_graphConflicts mX5_turns mX5_queue mX5_head mX5_tail mX5_ring mX58_number mX58_sees mX58_state mX59_writes mX59_count mX59_noted mX59_waitsFor mX59_turn mX59_triple mX59_there mX60_version mX60_there mX60_older mX66_version mX66_count mX66_next A gi vr la c wr se pn ps nt rf) (h : ∀ i, tvU c wr vr ps i 0 → (i = 1 ∨ i = 2) → A i 0 ≠ b) : tvE kd an ai al (va_up ar b f) mX5_newest mX5_rows mX5_latest mX5_pins mX5_transactions mX5_count mX5_holders mX5_tripleConflicts mX5_graphConflicts mX5_turns mX5_queue mX5_head mX5_tail mX5_ring mX58_number mX58_sees mX58_state mX59_writes mX59_count mX59_noted mX59_waitsFor mX59_turn mX59_triple mX59_there mX60_version mX60_there mX60_older mX66_version mX66_count mX66_next A gi vr la c wr se pn ps nt rf := by
  obtain ⟨G, F, T, R, P, N, n, r4⟩ := E
  refine ⟨G, F, fun t p q => ?_, ⟨fun k p q => ?_, R.2⟩, P, N, n, r4⟩
  · rw [va_up_ne _ _ (h 2 rfl (Or.inr rfl))]; exact T t p q
  · rw [va_up_ne _ _ (h 1 rfl (Or.inl rfl))]; exact R.1 k p q
theorem CVT_leave {post : Int → (Nat → Int → Int) → (Nat → Int → Option Nat) → (Nat → Int) → (Nat → Option Nat) → Prop} (G : LabU (tvK wr) tvL (tvU c wr vr ps) kd an A gi) (F : mX5_holders (A 0 0) = some (A 3 0)) (ht : 0 ≤ t ∧ t < c) (hw : ¬ wr t = 0) (W : mX59_writes (A 7 t) = some (A 8 t)) (hH : tvHo ar A ho) (hb : ∀ k, 0 ≤ k → k < 200 → ho k = -1 ∨ (0 ≤ ho k ∧ ho k < c)) (hp : ∀ f h, (∀ k, 0 ≤ k → k < 200 → h k = tvO A (vtHo ho t k)) → post (mX59_count (A 7 t)) (va_up ai (A 8 t) f) (va_up ar (A 3 0) h) (va_up mX59_count (A 7 t) 0) (va_up mX59_waitsFor (A 7 t) none)) : wpVT_X59_leave post kd an ai ar mX5_holders mX59_writes mX59_count mX59_waitsFor (A 7 t) (some (A 0 0)) := by
  unfold wpVT_X59_leave
  intro _ e1 _ e2
  subst e1 e2
  have U8 : tvU c wr vr ps 8 t := ⟨ht, hw⟩
  refine wl3 (fun m k ai ar => wVT_X59_leave_12 _ (A 7 t) (some (A 0 0)) kd an mX5_holders mX59_writes m k ai ar) (fun k ai' ar' => (0 ≤ k ∧ k ≤ 200) ∧ ∃ f h, ai' = va_up ai (A 8 t) f ∧ ar' = va_up ar (A 3 0) h ∧ (∀ j, 0 ≤ j → j < k → h j = tvO A (vtHo ho t j)) ∧ ∀ j, k ≤ j → h j = ar (A 3 0) j) (fun k _ _ => (200 - k).toNat) ?_ 0 ai ar ⟨by decide, ai (A 8 t), ar (A 3 0), (va_up_id rfl).symm, (va_up_id rfl).symm, fun j a b => by omega, fun _ _ => rfl⟩
  rintro k ai' ar' ⟨hk, f, h, rfl, rfl, h1, h2⟩ m ih
  rw [wVT_X59_leave_12]
  refine ⟨fun z _ e1 => ?_, fun z => kOn_some ⟨G.k 0 0 rfl, kOn_of F ⟨G.k 3 0 rfl, by rw [G.l 3 0 rfl (by decide)]; show 0 ≤ k ∧ k < (200 : Int); omega, fun r er => ?_⟩⟩⟩
  · subst e1
    exact hp f h (fun j a b => h1 j a (by omega))
  · have kb : 0 ≤ k ∧ k < 200 := by omega
    have eh : h k = tvO A (ho k) := (h2 k (Int.le_refl _)).trans (hH k kb.1 kb.2)
    rw [va_up_self, eh] at er
    have nx : ∀ (h' : Int → Option Nat) (f' : Int → Int), (∀ j, j ≠ k → h' j = h j) → h' k = tvO A (vtHo ho t k) → wVT_X59_leave_12 _ (A 7 t) (some (A 0 0)) kd an mX5_holders mX59_writes m (k + 1) (va_up ai (A 8 t) f') (va_up ar (A 3 0) h') := fun h' f' a b => ih (k + 1) _ _ ⟨by omega, f', h', rfl, rfl, fun j p q => by
      by_cases e : j = k
      · subst e; exact b
      · rw [a j e]; exact h1 j p (by omega), fun j p => by rw [a j (by omega)]; exact h2 j (by omega)⟩ (by omega)
    have rt : r = some (A 7 t) ↔ ho k = t := by
      rw [er]
      unfold tvO
      rcases hb k kb.1 kb.2 with e | e
      · rw [if_pos e]; exact ⟨fun q => absurd q (by simp), fun q => by omega⟩
      · rw [if_neg (by omega)]
        exact ⟨fun q => G.inj (i := 7) e ht (Option.some.inj q), fun q => by rw [q]⟩
    refine ⟨fun e ar2 e2 => kOn_of W ⟨G.k 8 t U8, by rw [G.l 8 t U8 (by decide)]; exact kb, fun ai2 e3 => ⟨by omega, fun _ e4 => ?_⟩⟩, fun e => kOn_of W ⟨G.k 8 t U8, by rw [G.l 8 t U8 (by decide)]; exact kb, fun ai2 e3 => ⟨by omega, fun _ e4 => ?_⟩⟩⟩
    · subst e2 e3 e4
      rw [va_up_self, va_up_up, va_up_self, va_up_up]
      refine nx _ _ (fun j q => updI_n q) ?_
      rw [updI_s]
      unfold vtHo
      rw [if_pos ⟨kb.1, kb.2, rt.mp e⟩]; rfl
    · subst e3 e4
      rw [va_up_self, va_up_up]
      refine nx _ _ (fun j q => rfl) ?_
      rw [eh]
      unfold vtHo
      rw [if_neg (fun q => e (rt.mpr q.2.2))]
theorem CVT_next {post : Option Nat → Prop} (G : LabU (tvK wr) tvL (tvU c wr vr ps) kd an A gi) (F : mX5_transactions (A 0 0) = some (A 2 0)) (T : ∀ w, 0 ≤ w → w < c → ar (A 2 0) w = some (A 7 w)) (hsa : tvSa sa) (ec : mX5_count (A 0 0) = c) (hc : 0 ≤ c ∧ c ≤ 60) (hS : tvSt sa mX58_state A c st) (W : ∀ w, 0 ≤ w → w < c → st w = 1 → ¬ wr w = 0 ∧ (0 ≤ wf w ∧ wf w < c) ∧ mX59_waitsFor (A 7 w) = some (A 7 (wf w)) ∧ mX59_turn (A 7 w) = si w + 1) (ht : 0 ≤ t ∧ t < c) {l0 : Int} (e0 : l0 = l + 1) (h0 : (∀ w, vtWa st wf c t w → si w ≤ l) → post none) (h1 : ∀ x, vtWa st wf c t x → l < si x → (∀ w, vtWa st wf c t w → l < si w → si x ≤ si w) → post (some (A 7 x))) : wpVT_X5_nextWaiting post kd an ar mX5_transactions mX5_count mX58_state mX59_waitsFor mX59_turn sa (A 0 0) (some (A 7 t)) l0 := by
  subst e0
  unfold wpVT_X5_nextWaiting
  refine wl2 (fun m o i => wVT_X5_nextWaiting_5 _ (A 0 0) (some (A 7 t)) (l + 1) kd an ar mX5_transactions mX5_count mX58_state mX59_waitsFor mX59_turn sa m o i) (fun o i => (0 ≤ i ∧ i ≤ c) ∧ ((o = none ∧ ∀ w, vtWa st wf c t w → w < i → si w ≤ l) ∨ ∃ b, o = some (A 7 b) ∧ b < i ∧ vtWa st wf c t b ∧ l < si b ∧ ∀ w, vtWa st wf c t w → w < i → l < si w → si b ≤ si w)) (fun o i => (c - i).toNat) ?_ none 0 ⟨by omega, Or.inl ⟨rfl, fun w a b => by have := a.1; omega⟩⟩
  rintro o i ⟨hi, hb⟩ m ih
  have no : ¬ (vtWa st wf c t i ∧ l < si i ∧ ∀ b, o = some (A 7 b) → vtWa st wf c t b → si i < si b) → i < c → (zR (i + 1) ∧ ∀ x : Int, x = i + 1 → wVT_X5_nextWaiting_5 (fun (x3_32 : Option Nat) => (post x3_32)) (A 0 0) (some (A 7 t)) (l + 1) kd an ar mX5_transactions mX5_count mX58_state mX59_waitsFor mX59_turn sa m o x) := fun w hlt => by
    refine ⟨by omega, fun _ e => ?_⟩
    rw [e]
    refine ih _ _ ⟨by omega, ?_⟩ (by omega)
    rcases hb with ⟨e1, hb⟩ | ⟨b, eb, b1, b2, b3, hb⟩
    · refine Or.inl ⟨e1, fun w' a a2 => ?_⟩
      by_cases h : w' = i
      · subst h
        by_cases h2 : l < si w'
        · exact absurd ⟨a, h2, fun b q => by rw [e1] at q; exact absurd q (by simp)⟩ w
        · omega
      · exact hb w' a (by omega)
    · refine Or.inr ⟨b, eb, by omega, b2, b3, fun w' a a2 a3 => ?_⟩
      by_cases h : w' = i
      · subst h
        by_cases h2 : si w' < si b
        · exact absurd ⟨a, a3, fun b' q q2 => by
            rw [eb] at q
            have := G.inj (i := 7) b2.1 q2.1 (Option.some.inj q)
            subst this; exact h2⟩ w
        · omega
      · exact hb w' a (by omega) a3
  have yes : (vtWa st wf c t i ∧ l < si i ∧ ∀ b, o = some (A 7 b) → vtWa st wf c t b → si i < si b) → (zR (i + 1) ∧ ∀ x : Int, x = i + 1 → wVT_X5_nextWaiting_5 (fun (x3_32 : Option Nat) => (post x3_32)) (A 0 0) (some (A 7 t)) (l + 1) kd an ar mX5_transactions mX5_count mX58_state mX59_waitsFor mX59_turn sa m (some (A 7 i)) x) := fun w => by
    have := w.1.1
    refine ⟨by omega, fun _ e => ?_⟩
    rw [e]
    refine ih _ _ ⟨by omega, Or.inr ⟨i, rfl, by omega, w.1, w.2.1, fun w' a a2 a3 => ?_⟩⟩ (by omega)
    by_cases h : w' = i
    · subst h; omega
    · rcases hb with ⟨e1, hb⟩ | ⟨b, eb, b1, b2, b3, hb⟩
      · have := hb w' a (by omega); omega
      · have := hb w' a (by omega) a3
        have := w.2.2 b eb b2
        omega
  rw [wVT_X5_nextWaiting_5, ec]
  refine ⟨fun z => ?_, fun z => kOn_of F ⟨G.k 2 0 rfl, by rw [G.l 2 0 rfl (by decide)]; show 0 ≤ i ∧ i < (60 : Int); omega, fun r er => ?_⟩⟩
  · rcases hb with ⟨e1, hb⟩ | ⟨b, eb, b1, b2, b3, hb⟩
    · rw [e1]; exact h0 (fun w a => hb w a (by have := a.1; omega))
    · rw [eb]; exact h1 b b2 b3 (fun w a a2 => hb w a (by have := a.1; omega) a2)
  · have ib : 0 ≤ i ∧ i < c := by omega
    rw [er, T i ib.1 ib.2]
    have e1 := hS.e hsa ib 1 (by decide)
    refine kOn_some ⟨tvKk G ib, fun z8 z1 z0 => ?_⟩
    by_cases hw : wr i = 0
    · have ez : z8 = 0 := z0 (by rw [tvKr G ib hw]; decide)
      exact ⟨fun _ => no (fun w => (W i ib.1 ib.2 w.1.2.1).1 hw) ib.2, fun q => absurd ez q⟩
    · have ez : z8 = 1 := z1 (tvKw G ib hw)
      refine ⟨fun q => by omega, fun _ => ⟨tvKw G ib hw, fun e => ?_, fun e => no (fun w => e (e1.mpr w.1.2.1)) ib.2⟩⟩
      have s1 := e1.mp e
      obtain ⟨-, wb, w2, w3⟩ := W i ib.1 ib.2 s1
      rw [w2, w3]
      refine ⟨fun e2 => ?_, fun e2 => no (fun w => e2 (by rw [w.1.2.2])) ib.2⟩
      have wt : wf i = t := G.inj (i := 7) wb ht (Option.some.inj e2)
      refine ⟨fun e3 => no (fun w => by have := w.2.1; omega) ib.2, fun e3 => ⟨fun e4 => yes ⟨⟨ib, s1, wt⟩, by omega, fun b q => by rw [e4] at q; exact absurd q (by simp)⟩, fun b18 e18 => ?_⟩⟩
      rcases hb with ⟨e1, hb⟩ | ⟨b, eb, b1, b2, b3, hb⟩
      · rw [e1] at e18; exact absurd e18 (by simp)
      · rw [eb] at e18
        have eb' : b18 = A 7 b := (Option.some.inj e18).symm
        subst eb'
        obtain ⟨bw, -, -, w4⟩ := W b b2.1.1 b2.1.2 b2.2.1
        rw [w4]
        refine ⟨tvKw G b2.1 bw, fun e5 => no (fun w => by have := w.2.2 b eb b2; omega) ib.2, fun e5 => yes ⟨⟨ib, s1, wt⟩, by omega, fun b' q q2 => ?_⟩⟩
        rw [eb] at q
        have := G.inj (i := 7) b2.1 q2.1 (Option.some.inj q)
        subst this; omega
end

/-! VersionTrans (room VT): one ends, all of it -/
section
variable {c la k v t l x : Int} {wr se pn rf : Int → Int} {vr nt : Int → Int → Int} {ps : List Int} {S : VS}
variable {kd : Nat → Nat} {an : Nat → Nat} {ai : Nat → Int → Int} {al : Nat → Int → Int} {ar : Nat → Int → Option Nat} {mX5_newest : Nat → Option Nat} {mX5_rows : Nat → Int} {mX5_latest : Nat → Int} {mX5_pins : Nat → Option Nat} {mX5_transactions : Nat → Option Nat} {mX5_count : Nat → Int} {mX5_holders : Nat → Option Nat} {mX5_tripleConflicts : Nat → Option Nat} {mX5_graphConflicts : Nat → Option Nat} {mX5_turns : Nat → Int} {mX5_queue : Nat → Option Nat} {mX5_head : Nat → Int} {mX5_tail : Nat → Int} {mX5_ring : Nat → Option Nat} {mX58_number : Nat → Int} {mX58_sees : Nat → Int} {mX58_state : Nat → Option Nat} {mX59_writes : Nat → Option Nat} {mX59_count : Nat → Int} {mX59_noted : Nat → Option Nat} {mX59_waitsFor : Nat → Option Nat} {mX59_turn : Nat → Int} {mX59_triple : Nat → Int} {mX59_there : Nat → Int} {mX60_version : Nat → Int} {mX60_there : Nat → Int} {mX60_older : Nat → Option Nat} {mX66_version : Nat → Int} {mX66_count : Nat → Int} {mX66_next : Nat → Option Nat} {sa : Nat → Nat} {A : Nat → Int → Nat} {gi : Nat → Nat × Int}
theorem CVT_end {post : (Nat → Int → Int) → (Nat → Int → Option Nat) → (Nat → Int) → (Nat → Int) → (Nat → Option Nat) → Prop} {sm0 : Nat → Option Nat} (hsa : tvSa sa) (es : mX58_state = va_up sm0 (A 7 t) (some (sa (5 + x.toNat)))) (O : tvOK kd an ai al ar mX5_newest mX5_rows mX5_latest mX5_pins mX5_transactions mX5_count mX5_holders mX5_tripleConflicts mX5_graphConflicts mX5_turns mX5_queue mX5_head mX5_tail mX5_ring mX58_number mX58_sees sm0 mX59_writes mX59_count mX59_noted mX59_waitsFor mX59_turn mX59_triple mX59_there mX60_version mX60_there mX60_older mX66_version mX66_count mX66_next sa A gi S vr la c wr se pn ps nt rf) (J : vJ c wr S) (hc : 0 ≤ c ∧ c ≤ 59) (ht : 0 ≤ t ∧ t < c) (hw : ¬ wr t = 0) (hx : 3 ≤ x ∧ x ≤ 4) (hQ : S.Q.length + 60 < 3600) (hp : ∀ ai' ar' tl cn wf', tvOK kd an (ai') al (ar') mX5_newest mX5_rows mX5_latest mX5_pins mX5_transactions mX5_count mX5_holders mX5_tripleConflicts mX5_graphConflicts mX5_turns mX5_queue mX5_head tl mX5_ring mX58_number mX58_sees mX58_state mX59_writes cn mX59_noted (wf') mX59_turn mX59_triple mX59_there mX60_version mX60_there mX60_older mX66_version mX66_count mX66_next sa A gi (vEnd c t x S) vr la c wr se pn ps nt rf → post ai' ar' tl cn wf') : wpVT_X5_end post kd an ai ar mX5_transactions mX5_count mX5_holders mX5_queue mX5_tail mX58_state mX59_writes mX59_count mX59_waitsFor mX59_turn sa (A 0 0) (some (A 7 t)) := by
  obtain ⟨⟨G, F, T, R, P, N, ⟨n1, n2, n3⟩, r4⟩, d1, d2, d3, d4, d5, d6, d7, d8, d9, d10, d11⟩ := O
  obtain ⟨j1, j2, j3, j4, j6, j7⟩ := J
  have U8 : tvU c wr vr ps 8 t := ⟨ht, hw⟩
  have od : ∀ w, updI S.st t x w = 1 → w ≠ t ∧ S.st w = 1 := fun w h => by
    by_cases e : w = t
    · rw [e, updI_s] at h; omega
    · rw [updI_n e] at h; exact ⟨e, h⟩
  have n7 : ∀ w, 0 ≤ w → w < c → w ≠ t → A 7 w ≠ A 7 t := fun w a b h => G.ne (i := 7) (i' := 7) ⟨a, b⟩ ht (Or.inr h)
  have S1 : tvSt sa mX58_state A c (updI S.st t x) := fun w a b => by
    rw [es]
    by_cases e : w = t
    · subst e; rw [va_up_self, updI_s]; exact ⟨rfl, by omega, by omega⟩
    · rw [va_up_ne _ _ (n7 w a b e), updI_n e]; exact d1 w a b
  have W1 : ∀ w, 0 ≤ w → w < c → updI S.st t x w = 1 → ¬ wr w = 0 ∧ (0 ≤ S.wf w ∧ S.wf w < c) ∧ va_up mX59_waitsFor (A 7 t) none (A 7 w) = some (A 7 (S.wf w)) ∧ mX59_turn (A 7 w) = S.si w + 1 := fun w a b h => by
    obtain ⟨e, s⟩ := od w h
    have q := d2 w a b s
    rw [va_up_ne _ _ (n7 w a b e)]
    exact ⟨(j3 w a b s).2.1, (j1.1 w a b s).1, q.1, q.2.1⟩
  have wa : ∀ w, vtWa (updI S.st t x) S.wf c t w → (0 ≤ w ∧ w < c) ∧ S.st w = 1 := fun w h => ⟨h.1, (od w h.2.1).2⟩
  have s0 : ∀ w, vtWa (updI S.st t x) S.wf c t w → 0 ≤ S.si w := fun w h => by
    have := wa w h
    exact (j1.1 w this.1.1 this.1.2 this.2).2.1
  have sd : ∀ w w', vtWa (updI S.st t x) S.wf c t w → vtWa (updI S.st t x) S.wf c t w' → S.si w = S.si w' → w = w' := fun w w' h h' e => by
    have a := wa w h
    have b := wa w' h'
    exact j1.2 w w' a.1.1 a.1.2 a.2 b.1.1 b.1.2 b.2 e
  have rb : ∀ l, 0 ≤ cntI (fun w => vtWa (updI S.st t x) S.wf c t w ∧ l < S.si w) c.toNat ∧ cntI (fun w => vtWa (updI S.st t x) S.wf c t w ∧ l < S.si w) c.toNat ≤ c := fun l => by
    have := cntI_b (fun w => vtWa (updI S.st t x) S.wf c t w ∧ l < S.si w) c.toNat; omega
  have n6 : ∀ i, i ≠ 6 → tvU c wr vr ps i 0 → A i 0 ≠ A 6 0 := fun i h u => G.ne u (i' := 6) (j' := 0) rfl (Or.inl h)
  unfold wpVT_X5_end
  refine kOn_some ⟨tvKw G ht hw, CVT_leave G F.2.2.1 ht hw ((T t ht.1 ht.2).2.2.2 hw).1 d4 (fun k a b => (j2 k a b).imp id (fun q => q.1)) (fun f h hh => ?_)⟩
  have n3' : ∀ i, i ≠ 3 → tvU c wr vr ps i 0 → A i 0 ≠ A 3 0 := fun i h u => G.ne u (i' := 3) (j' := 0) rfl (Or.inl h)
  have key : ∀ (d : Nat) (l : Int) (L : List Int) (o : Option Nat) (ar' : Nat → Int → Option Nat) (z : Int), (∀ w, w ∈ L ↔ (vtWa (updI S.st t x) S.wf c t w ∧ S.si w ≤ l)) → L.Pairwise (fun a b => S.si a < S.si b) → (L.length + cntI (fun w => vtWa (updI S.st t x) S.wf c t w ∧ l < S.si w) c.toNat ≤ 59) → (∀ i, i ≠ 3 → i ≠ 6 → tvU c wr vr ps i 0 → ar' (A i 0) = ar (A i 0)) → ar' (A 3 0) = h → tvQ ar' (mX5_head (A 0 0)) z A (S.Q ++ L) → ((o = none ∧ ∀ w, vtWa (updI S.st t x) S.wf c t w → S.si w ≤ l) ∨ ∃ y, o = some (A 7 y) ∧ vtWa (updI S.st t x) S.wf c t y ∧ l < S.si y ∧ ∀ w, vtWa (updI S.st t x) S.wf c t w → l < S.si w → S.si y ≤ S.si w) → cntI (fun w => vtWa (updI S.st t x) S.wf c t w ∧ l < S.si w) c.toNat < d → wVT_X5_end_15 (fun ar_30 mX5_tail_31 => post (va_up ai (A 8 t) f) ar_30 mX5_tail_31 (va_up mX59_count (A 7 t) 0) (va_up mX59_waitsFor (A 7 t) none)) (A 0 0) (some (A 7 t)) kd an mX5_transactions mX5_count mX5_queue mX58_state (va_up mX59_waitsFor (A 7 t) none) mX59_turn sa d o ar' (va_up mX5_tail (A 0 0) z) := by
    intro d
    induction d with
    | zero =>
      intro l _ _ _ _ _ _ _ _ _ _ _ hd
      have := rb l; omega
    | succ d ih =>
      intro l L o ar' z m1 m2 m3 m4 m5 m6 ho hd
      rw [wVT_X5_end_15]
      rcases ho with ⟨eo, hz⟩ | ⟨y, eo, wy, ly, my⟩
      · refine ⟨fun _ => ?_, fun b e => by rw [eo] at e; exact absurd e (by simp)⟩
        have hL : vtQl (updI S.st t x) S.wf S.si c t L := ⟨fun w => (m1 w).trans ⟨fun h => h.1, fun h => ⟨h, hz w h⟩⟩, m2⟩
        have eQ : (vEnd c t x S).Q = S.Q ++ L := by
          show S.Q ++ vtL (updI S.st t x) S.wf S.si c t = S.Q ++ L
          rw [vtL_eq hL]
        refine hp _ _ _ _ _ ⟨⟨G, F, fun w a b => ?_, ⟨fun k a b => ?_, R.2⟩, P, fun w a b q g p p2 => ?_, ⟨n1, n2, n3⟩, fun g a b => ?_⟩, S1, fun w a b s => ?_, fun w a b q s => ?_, fun k a b => ?_, ?_, d6, fun k a b => ?_, d8, d9, ?_, d11⟩
        · rw [m4 2 (by decide) (by decide) rfl]; exact T w a b
        · rw [m4 1 (by decide) (by decide) rfl]; exact R.1 k a b
        · rw [va_up_ne _ _ (G.ne (i := 9) (i' := 8) ⟨⟨a, b⟩, q⟩ U8 (Or.inl (by decide)))]; exact N w a b q g p p2
        · rw [va_up_ne _ _ (G.ne (i := 5) (i' := 8) (j := 0) rfl U8 (Or.inl (by decide)))]; exact r4 g a b
        · obtain ⟨e, s'⟩ := od w s
          rw [va_up_ne _ _ (n7 w a b e)]
          exact d2 w a b s'
        · have s : updI S.st t x w < 3 := s
          have e : w ≠ t := fun e => by rw [e, updI_s] at s; omega
          rw [updI_n e] at s
          rw [va_up_ne _ _ (n7 w a b e), va_up_ne _ _ (G.ne (i := 8) (i' := 8) ⟨⟨a, b⟩, q⟩ U8 (Or.inr e))]
          exact d3 w a b q s
        · rw [m5]; exact hh k a b
        · rw [va_up_self, eQ]; exact m6
        · rw [va_up_ne _ _ (G.ne (i := 4) (i' := 8) (j := 0) rfl U8 (Or.inl (by decide)))]; exact d7 k a b
        · rw [va_up_ne _ _ (G.ne (i := 10) (i' := 8) (j := 0) rfl U8 (Or.inl (by decide)))]; exact d10
      · have yb := wa y wy
        have wyw := (j3 y yb.1.1 yb.1.2 yb.2).2.1
        have rl := rb l
        have ry := rb (S.si y)
        have cu := cntI_u (p := fun w => vtWa (updI S.st t x) S.wf c t w ∧ S.si y < S.si w) (q := fun w => vtWa (updI S.st t x) S.wf c t w ∧ l < S.si w) (x0 := y) yb.1.1 (fun h => by have := h.2; omega) ⟨wy, ly⟩ (fun w hw => ⟨fun h => ⟨h.1, by have := h.2; omega⟩, fun h => ⟨h.1, by
          have a := my w h.1 h.2
          by_cases e : S.si y = S.si w
          · exact absurd (sd y w wy h.1 e).symm hw
          · omega⟩⟩) c.toNat
        rw [if_pos (by omega)] at cu
        refine ⟨fun e => by rw [eo] at e; exact absurd e (by simp), fun b eb => ?_⟩
        have eb' : b = A 7 y := by rw [eo] at eb; exact (Option.some.inj eb).symm
        subst eb'
        have zb : 0 ≤ z ∧ z < 3600 := by have := m6.2.2.1; omega
        have lQ : ((S.Q ++ L).length : Int) = S.Q.length + L.length := by rw [List.length_append]; omega
        have m6b := m6.2.1
        refine kOn_of F.2.2.2.2.2 ⟨G.k 6 0 rfl, ?_⟩
        rw [G.l 6 0 rfl (by decide), va_up_self]
        show (0 ≤ z ∧ z < ((3600 : Nat) : Int)) ∧ _
        refine ⟨by omega, tvKw G yb.1 wyw, fun ar2 e2 => ⟨by decide, by omega, by decide, ?_, ?_⟩⟩
        · rw [Int.tdiv_eq_ediv_of_nonneg (by omega)]
          show zR ((z + 1) / ((3600 : Nat) : Int))
          omega
        rw [Int.tmod_eq_emod_of_nonneg (by omega)]
        intro _ e3 _ e4 _ e5
        subst e3 e4 e5
        rw [va_up_up, (d2 y yb.1.1 yb.1.2 yb.2).2.1]
        have hA : ∀ i, i ≠ 3 → i ≠ 6 → tvU c wr vr ps i 0 → ar2 (A i 0) = ar (A i 0) := fun i a b u => by rw [e2, va_up_ne _ _ (n6 i b u)]; exact m4 i a b u
        have pu := m6.push (x := y) (by omega)
        rw [← e2] at pu
        have m1' : ∀ w, w ∈ L ++ [y] ↔ (vtWa (updI S.st t x) S.wf c t w ∧ S.si w ≤ S.si y) := fun w => by
          rw [List.mem_append, List.mem_singleton, m1 w]
          constructor
          · rintro (h | h)
            · exact ⟨h.1, by have := h.2; omega⟩
            · subst h; exact ⟨wy, Int.le_refl _⟩
          · intro h
            by_cases h2 : S.si w ≤ l
            · exact Or.inl ⟨h.1, h2⟩
            · have a := my w h.1 (by omega)
              exact Or.inr (sd w y h.1 wy (by have := h.2; omega))
        have m2' : (L ++ [y]).Pairwise (fun a b => S.si a < S.si b) := by
          rw [List.pairwise_append]
          refine ⟨m2, List.pairwise_singleton _ _, fun a ha b hb => ?_⟩
          rw [List.mem_singleton] at hb
          subst hb
          have := ((m1 a).mp ha).2
          omega
        have m3' : ((L ++ [y]).length : Int) + cntI (fun w => vtWa (updI S.st t x) S.wf c t w ∧ S.si y < S.si w) c.toNat ≤ 59 := by
          rw [List.length_append, List.length_singleton]; omega
        have m5' : ar2 (A 3 0) = h := by rw [e2, va_up_ne _ _ (n6 3 (by decide) rfl)]; exact m5
        have m6' : tvQ ar2 (mX5_head (A 0 0)) ((z + 1) % ((3600 : Nat) : Int)) A (S.Q ++ (L ++ [y])) := by rw [← List.append_assoc]; exact pu
        exact CVT_next (ar := ar2) (mX59_waitsFor := va_up mX59_waitsFor (A 7 t) none) (l := S.si y) G F.2.1 (fun w a b => by rw [hA 2 (by decide) (by decide) rfl]; exact (T w a b).1) hsa n3 (by omega) S1 W1 ht rfl (fun hn => ih (S.si y) (L ++ [y]) _ _ _ m1' m2' m3' hA m5' m6' (Or.inl ⟨rfl, hn⟩) (by omega)) (fun y' a b d' => ih (S.si y) (L ++ [y]) _ _ _ m1' m2' m3' hA m5' m6' (Or.inr ⟨y', rfl, a, b, d'⟩) (by omega))
  have m1 : ∀ w, w ∈ ([] : List Int) ↔ (vtWa (updI S.st t x) S.wf c t w ∧ S.si w ≤ -1) := fun w => ⟨fun h => absurd h (List.not_mem_nil), fun h => by have := s0 w h.1; omega⟩
  have hA : ∀ i, i ≠ 3 → i ≠ 6 → tvU c wr vr ps i 0 → va_up ar (A 3 0) h (A i 0) = ar (A i 0) := fun i a _ u => va_up_ne _ _ (n3' i a u)
  have m6 : tvQ (va_up ar (A 3 0) h) (mX5_head (A 0 0)) (mX5_tail (A 0 0)) A (S.Q ++ []) := by
    rw [List.append_nil]
    refine ⟨d5.1, d5.2.1, d5.2.2.1, fun i hi => ?_⟩
    rw [va_up_ne _ _ (n3' 6 (by decide) rfl)]; exact d5.2.2.2 i hi
  have m3 : ((([] : List Int).length : Nat) : Int) + cntI (fun w => vtWa (updI S.st t x) S.wf c t w ∧ -1 < S.si w) c.toNat ≤ 59 := by
    have := rb (-1)
    show ((0 : Nat) : Int) + _ ≤ 59
    omega
  have et : mX5_tail = va_up mX5_tail (A 0 0) (mX5_tail (A 0 0)) := (va_up_id rfl).symm
  refine CVT_next (ar := va_up ar (A 3 0) h) (mX59_waitsFor := va_up mX59_waitsFor (A 7 t) none) (l := -1) G F.2.1 (fun w a b => by rw [hA 2 (by decide) (by decide) rfl]; exact (T w a b).1) hsa n3 (by omega) S1 W1 ht (by decide) (fun hn => ⟨60, ?_⟩) (fun y a b d' => ⟨60, ?_⟩)
  · have := key 60 (-1) [] none _ (mX5_tail (A 0 0)) m1 List.Pairwise.nil m3 hA (va_up_self _ _ _) m6 (Or.inl ⟨rfl, hn⟩) (by have := rb (-1); omega)
    rw [← et] at this
    exact this
  · have := key 60 (-1) [] (some (A 7 y)) _ (mX5_tail (A 0 0)) m1 List.Pairwise.nil m3 hA (va_up_self _ _ _) m6 (Or.inr ⟨y, rfl, a, b, d'⟩) (by have := rb (-1); omega)
    rw [← et] at this
    exact this
end

/-! VersionTrans (room VT): a ring is looked for -/
section
variable {c la k v t l x : Int} {wr se pn rf st wf : Int → Int} {vr nt : Int → Int → Int} {ps : List Int} {S : VS} {MC MS : Nat}
theorem vtP_w {n : Nat} (h : ∀ i, i < n → st (vtP wf t i) = 1) (hb : ∀ w, 0 ≤ w → w < c → st w = 1 → 0 ≤ wf w ∧ wf w < c) (ht : 0 ≤ t ∧ t < c) : ∀ i, i ≤ n → 0 ≤ vtP wf t i ∧ vtP wf t i < c
  | 0, _ => ht
  | i + 1, hi => by
    have := vtP_w h hb ht i (by omega)
    exact hb _ this.1 this.2 (h i (by omega))
/-- with falling ranks beside t the way comes to c different ones at most -/
theorem vtP_rk {rk : Int → Nat} {n : Nat} (hr : ∀ w, 0 ≤ w → w < c → w ≠ t → st w = 1 → rk (wf w) < rk w) (hb : ∀ w, 0 ≤ w → w < c → st w = 1 → 0 ≤ wf w ∧ wf w < c) (ht : 0 ≤ t ∧ t < c) (h : ∀ i, i < n → st (vtP wf t i) = 1) (hn : ∀ i, 1 ≤ i → i < n → vtP wf t i ≠ t) : ∀ i j : Nat, 1 ≤ i → i < j → j ≤ n → rk (vtP wf t j) < rk (vtP wf t i) := by
  intro i j hi hij hj
  induction j with
  | zero => omega
  | succ j ih =>
    have pb := vtP_w h hb ht j (by omega)
    have q := hr (vtP wf t j) pb.1 pb.2 (hn j (by omega) (by omega)) (h j (by omega))
    by_cases e : i = j
    · subst e; exact q
    · have := ih (by omega) (by omega)
      have q' : rk (vtP wf t (j + 1)) < rk (vtP wf t j) := q
      omega
theorem vtP_le {rk : Int → Nat} {n : Nat} (hr : ∀ w, 0 ≤ w → w < c → w ≠ t → st w = 1 → rk (wf w) < rk w) (hb : ∀ w, 0 ≤ w → w < c → st w = 1 → 0 ≤ wf w ∧ wf w < c) (ht : 0 ≤ t ∧ t < c) (h : ∀ i, i < n → st (vtP wf t i) = 1) (hn : ∀ i, 1 ≤ i → i < n → vtP wf t i ≠ t) : (n : Int) ≤ c := by
  have := pig_le (f := fun i => vtP wf t (i + 1)) (c := c.toNat) (n := n) (fun i hi => by have := vtP_w h hb ht (i + 1) (by omega); omega) (fun i j a b e => by
    have q := vtP_rk hr hb ht h hn (i + 1) (j + 1) (by omega) (by omega) (by omega)
    rw [show vtP wf t (i + 1) = vtP wf t (j + 1) from e] at q
    omega)
  omega
variable {kd : Nat → Nat} {an : Nat → Nat} {ai : Nat → Int → Int} {al : Nat → Int → Int} {ar : Nat → Int → Option Nat} {mX5_newest : Nat → Option Nat} {mX5_rows : Nat → Int} {mX5_latest : Nat → Int} {mX5_pins : Nat → Option Nat} {mX5_transactions : Nat → Option Nat} {mX5_count : Nat → Int} {mX5_holders : Nat → Option Nat} {mX5_tripleConflicts : Nat → Option Nat} {mX5_graphConflicts : Nat → Option Nat} {mX5_turns : Nat → Int} {mX5_queue : Nat → Option Nat} {mX5_head : Nat → Int} {mX5_tail : Nat → Int} {mX5_ring : Nat → Option Nat} {mX58_number : Nat → Int} {mX58_sees : Nat → Int} {mX58_state : Nat → Option Nat} {mX59_writes : Nat → Option Nat} {mX59_count : Nat → Int} {mX59_noted : Nat → Option Nat} {mX59_waitsFor : Nat → Option Nat} {mX59_turn : Nat → Int} {mX59_triple : Nat → Int} {mX59_there : Nat → Int} {mX60_version : Nat → Int} {mX60_there : Nat → Int} {mX60_older : Nat → Option Nat} {mX66_version : Nat → Int} {mX66_count : Nat → Int} {mX66_next : Nat → Option Nat} {sa : Nat → Nat} {A : Nat → Int → Nat} {gi : Nat → Nat × Int}
/-- the way of waits, up to its end or to its begin -/
theorem CVT_l10 {K : Int → Option Nat → Option Nat → Prop} {rk : Int → Nat} (hsa : tvSa sa) (G : LabU (tvK wr) tvL (tvU c wr vr ps) kd an A gi) (hc : 0 ≤ c ∧ c ≤ 59) (hS : tvSt sa mX58_state A c st) (hN : ∀ w, 0 ≤ w → w < c → mX58_number (A 7 w) = w) (W : ∀ w, 0 ≤ w → w < c → st w = 1 → (0 ≤ wf w ∧ wf w < c) ∧ mX59_waitsFor (A 7 w) = some (A 7 (wf w)) ∧ ¬ wr w = 0 ∧ ¬ wr (wf w) = 0) (hr : ∀ w, 0 ≤ w → w < c → w ≠ t → st w = 1 → rk (wf w) < rk w) (ht : 0 ≤ t ∧ t < c) (s1 : st t = 1) (h0 : ∀ n y, (∀ m, ¬ vtCy st wf t m) → K n y none) (h1 : ∀ (n : Nat) y, vtCy st wf t n → (0 ≤ y ∧ y < c) → ((∃ i, i < n ∧ vtP wf t i = y) ∧ ∀ i, i < n → vtP wf t i ≤ y) → K n (some (A 7 y)) (some (A 7 t))) : ∃ fu, wVT_X5_lookForRing_10 MC MS K (some (A 7 t)) kd mX58_number mX58_state mX59_waitsFor sa fu 1 (some (A 7 t)) (mX59_waitsFor (A 7 t)) := by
  have hb : ∀ w, 0 ≤ w → w < c → st w = 1 → 0 ≤ wf w ∧ wf w < c := fun w a b s => (W w a b s).1
  have key : ∀ (d : Nat) (n : Nat) (y : Int), 1 ≤ n → (∀ i, i < n → st (vtP wf t i) = 1) → (∀ i, 1 ≤ i → i < n → vtP wf t i ≠ t) → (0 ≤ y ∧ y < c) → ((∃ i, i < n ∧ vtP wf t i = y) ∧ ∀ i, i < n → vtP wf t i ≤ y) → 61 - n < d → wVT_X5_lookForRing_10 MC MS K (some (A 7 t)) kd mX58_number mX58_state mX59_waitsFor sa d (n : Int) (some (A 7 y)) (some (A 7 (vtP wf t n))) := by
    intro d
    induction d with
    | zero => intro n _ _ _ _ _ _ h; omega
    | succ d ih =>
      intro n y n1 hw hn yb ym hd
      have nle := vtP_le hr hb ht hw hn
      have pb := vtP_w hw hb ht n (Nat.le_refl _)
      obtain ⟨⟨i0, hi0, ei0⟩, ymx⟩ := ym
      have wy : ¬ wr y = 0 := by rw [← ei0]; have := vtP_w hw hb ht i0 (by omega); exact (W _ this.1 this.2 (hw i0 hi0)).2.2.1
      have wp : ¬ wr (vtP wf t n) = 0 := by
        have q := vtP_w hw hb ht (n - 1) (by omega)
        have := (W _ q.1 q.2 (hw (n - 1) (by omega))).2.2.2
        rw [show n = n - 1 + 1 by omega]
        exact this
      rw [wVT_X5_lookForRing_10]
      refine ⟨fun e => absurd e (by simp), fun b eb => ?_⟩
      have eb' : b = A 7 (vtP wf t n) := (Option.some.inj eb).symm
      subst eb'
      refine ⟨fun e => ?_, fun e => ⟨tvKw G pb wp, kOn_some ⟨tvKw G yb wy, ?_⟩⟩⟩
      · have et : vtP wf t n = t := G.inj (i := 7) pb ht (Option.some.inj e)
        rw [et]
        exact h1 n y ⟨⟨n1, by omega⟩, et, hw, hn⟩ yb ⟨⟨i0, hi0, ei0⟩, ymx⟩
      · have ne : vtP wf t n ≠ t := fun q => e (by rw [q])
        rw [hN _ pb.1 pb.2, hN y yb.1 yb.2]
        have e1 := hS.e hsa pb 1 (by decide)
        have fin : ∀ y', (0 ≤ y' ∧ y' < c) → ((∃ i, i < n + 1 ∧ vtP wf t i = y') ∧ ∀ i, i < n + 1 → vtP wf t i ≤ y') → wVT_X5_lookForRing_36 MC MS (wVT_X5_lookForRing_10 MC MS K (some (A 7 t)) kd mX58_number mX58_state mX59_waitsFor sa d) ((n : Int)) (some (A 7 y')) (some (A 7 (vtP wf t n))) kd mX58_state mX59_waitsFor sa := fun y' yb' ym' => by
          unfold wVT_X5_lookForRing_36
          refine kOn_some ⟨tvKw G pb wp, fun es x4 e4 => ⟨by omega, fun x2 e2 => ?_⟩, fun es => ⟨by omega, fun x2 e2 => ?_⟩⟩
          · have sp := e1.mp es
            rw [e4, (W _ pb.1 pb.2 sp).2.1, e2]
            exact ih (n + 1) y' (by omega) (fun i hi => by
              by_cases q : i = n
              · subst q; exact sp
              · exact hw i (by omega)) (fun i a hi => by
              by_cases q : i = n
              · subst q; exact ne
              · exact hn i a (by omega)) yb' ym' (by omega)
          · rw [e2]
            have sp : ¬ st (vtP wf t n) = 1 := fun q => es (e1.mpr q)
            have dd : ∃ d', d = d' + 1 := ⟨d - 1, by omega⟩
            obtain ⟨d', rfl⟩ := dd
            rw [wVT_X5_lookForRing_10]
            refine ⟨fun _ => h0 _ _ (fun m C => ?_), fun b e => absurd e (by simp)⟩
            by_cases h : n < m
            · exact sp (C.2.2.1 n h)
            · by_cases h2 : m = n
              · subst h2; exact ne C.2.1
              · exact hn m C.1.1 (by omega) C.2.1
        refine ⟨fun le => fin y yb ⟨⟨i0, by omega, ei0⟩, fun i hi => ?_⟩, fun le => fin _ pb ⟨⟨n, by omega, rfl⟩, fun i hi => ?_⟩⟩
        · by_cases q : i = n
          · subst q; exact le
          · exact ymx i (by omega)
        · by_cases q : i = n
          · subst q; omega
          · have := ymx i (by omega); omega
  rw [(W t ht.1 ht.2 s1).2.1]
  exact ⟨_, key 62 1 t (Nat.le_refl _) (fun i hi => by
    have : i = 0 := by omega
    subst this; exact s1) (fun i a b => by omega) ht ⟨⟨0, by decide, rfl⟩, fun i hi => by
    have : i = 0 := by omega
    subst this; exact Int.le_refl _⟩ (by decide)⟩
/-- whether one is on the ring -/
theorem CVT_isOnB {P Q : Prop} {n : Nat} {u : Int} (G : LabU (tvK wr) tvL (tvU c wr vr ps) kd an A gi) (hN : ∀ w, 0 ≤ w → w < c → mX58_number (A 7 w) = w) (W : ∀ w, 0 ≤ w → w < c → st w = 1 → (0 ≤ wf w ∧ wf w < c) ∧ mX59_waitsFor (A 7 w) = some (A 7 (wf w)) ∧ ¬ wr w = 0 ∧ ¬ wr (wf w) = 0) (ht : 0 ≤ t ∧ t < c) (C : vtCy st wf t n) (h1 : (∃ i, i < n ∧ vtP wf t i = u) → Q) (h0 : ¬ (∃ i, i < n ∧ vtP wf t i = u) → P) : wpVT_X5_isOn (fun r => (r = 0 → P) ∧ (¬ r = 0 → Q)) kd mX58_number mX59_waitsFor (some (A 7 t)) u := by
  have hb : ∀ w, 0 ≤ w → w < c → st w = 1 → 0 ≤ wf w ∧ wf w < c := fun w a b s => (W w a b s).1
  obtain ⟨⟨n1, n60⟩, et, hw, hn⟩ := C
  have pb := vtP_w hw hb ht
  have s1 : st t = 1 := hw 0 (by omega)
  have key : ∀ (d i : Nat), 1 ≤ i → i ≤ n → (∀ j, j < i → vtP wf t j ≠ u) → n - i < d → wVT_X5_isOn_15 (fun (x2_10 : Option Nat) => ((x2_10 = some (A 7 t) → (((fun r : Int => (r = 0 → P) ∧ (¬ r = 0 → Q)) 0))) ∧ (¬ x2_10 = some (A 7 t) → (((fun r : Int => (r = 0 → P) ∧ (¬ r = 0 → Q)) 1))))) (some (A 7 t)) u kd mX58_number mX59_waitsFor d (some (A 7 (vtP wf t i))) := by
    intro d
    induction d with
    | zero => intro i _ _ _ h; omega
    | succ d ih =>
      intro i i1 i2 hj hd
      have pi := pb i i2
      rw [wVT_X5_isOn_15]
      refine ⟨fun e => ?_, fun e => ?_⟩
      · have ei : vtP wf t i = t := G.inj (i := 7) pi ht (Option.some.inj e)
        have en : i = n := by
          by_cases h : i < n
          · exact absurd ei (hn i i1 h)
          · omega
        refine ⟨fun _ => ⟨fun _ => h0 (fun ⟨j, a, b⟩ => hj j (by omega) b), fun q => absurd rfl q⟩, fun q => absurd e q⟩
      · have ln : i < n := by
          by_cases h : i < n
          · exact h
          · have : i = n := by omega
            subst this; exact absurd (by rw [et]) e
        have wi := W _ pi.1 pi.2 (hw i ln)
        refine kOn_some ⟨tvKw G pi wi.2.2.1, ?_⟩
        rw [hN _ pi.1 pi.2]
        refine ⟨fun eu => ⟨fun q => absurd q e, fun _ => ⟨fun q => absurd q (by decide), fun _ => h1 ⟨i, ln, eu⟩⟩⟩, fun eu x2 e2 => ?_⟩
        rw [e2, wi.2.1]
        exact ih (i + 1) (by omega) (by omega) (fun j hj2 => by
          by_cases q : j = i
          · subst q; exact eu
          · exact hj j (by omega)) (by omega)
  have wt := W t ht.1 ht.2 s1
  unfold wpVT_X5_isOn
  refine kOn_some ⟨tvKw G ht wt.2.2.1, ?_⟩
  rw [hN t ht.1 ht.2]
  refine ⟨fun e => ⟨fun q => absurd q (by decide), fun _ => h1 ⟨0, by omega, e⟩⟩, fun e x2 e2 => ?_⟩
  rw [e2, wt.2.1]
  exact ⟨n, key n 1 (Nat.le_refl _) n1 (fun j hj => by
    have : j = 0 := by omega
    subst this; exact e) (by omega)⟩
/-- the ring's numbers, in their order -/
theorem CVT_l83 {K : (Nat → Int → Int) → Prop} {n : Nat} {kc ks : Nat} (hC : kc ≤ MC ∧ ks ≤ MS) (G : LabU (tvK wr) tvL (tvU c wr vr ps) kd an A gi) (ec : mX5_count (A 0 0) = c) (hc : 0 ≤ c ∧ c ≤ 59) (hN : ∀ w, 0 ≤ w → w < c → mX58_number (A 7 w) = w) (W : ∀ w, 0 ≤ w → w < c → st w = 1 → (0 ≤ wf w ∧ wf w < c) ∧ mX59_waitsFor (A 7 w) = some (A 7 (wf w)) ∧ ¬ wr w = 0 ∧ ¬ wr (wf w) = 0) (ht : 0 ≤ t ∧ t < c) (C : vtCy st wf t n) (er : mX5_ring (A 0 0) = some (A 10 0)) (el : an (A 10 0) = n) (hp : ∀ f, vtQ f 0 (lsI (fun w => ∃ i, i < n ∧ vtP wf t i = w) c.toNat) → K (va_up ai (A 10 0) f)) : ∃ fu, wVT_X5_lookForRing_83 MC MS K (A 0 0) (some (A 7 t)) kd an mX5_count mX5_ring mX58_number mX59_waitsFor kc ks fu 0 0 ai := by
  have hb : ∀ w, 0 ≤ w → w < c → st w = 1 → 0 ≤ wf w ∧ wf w < c := fun w a b s => (W w a b s).1
  have pb := vtP_w C.2.2.1 hb ht
  obtain ⟨p, ep⟩ : ∃ p : Int → Prop, p = fun w => ∃ i, i < n ∧ vtP wf t i = w := ⟨_, rfl⟩
  have cn : cntI p c.toNat = n := by
    rw [ep]
    exact pigI (f := vtP wf t) (c := c.toNat) n (fun i hi => by have := pb i (by omega); omega) (fun i j a b => C.ne a b)
  have mono : ∀ m d : Nat, cntI p m ≤ cntI p (m + d) := fun m d => by
    rw [cntI_add d]
    have := cntI_b (fun x => p (m + x)) d
    omega
  rw [← ep] at hp
  refine wl3 (fun m x5 x6 ai => wVT_X5_lookForRing_83 MC MS K (A 0 0) (some (A 7 t)) kd an mX5_count mX5_ring mX58_number mX59_waitsFor kc ks m x5 x6 ai) (fun x5 x6 ai' => (0 ≤ x6 ∧ x6 ≤ c) ∧ x5 = (lsI p x6.toNat).length ∧ ∃ f, ai' = va_up ai (A 10 0) f ∧ vtQ f 0 (lsI p x6.toNat)) (fun _ x6 _ => (c - x6).toNat) ?_ 0 0 ai ⟨by omega, rfl, ai (A 10 0), (va_up_id rfl).symm, fun i hi => absurd hi (Nat.not_lt_zero _)⟩
  rintro x5 x6 ai' ⟨h6, e5, f, rfl, hq⟩ m ih
  rw [wVT_X5_lookForRing_83, ec]
  refine ⟨fun z => ?_, fun z => ⟨hC, ?_⟩⟩
  · have e : x6 = c := by omega
    subst e
    exact hp f hq
  · have ll := lsI_l (p := p) (n := x6.toNat)
    have lb := cntI_b p x6.toNat
    refine CVT_isOnB G hN W ht C (fun y => kOn_of er ⟨G.k 10 0 rfl, ?_⟩) (fun y => ⟨by omega, fun _ e => ?_⟩)
    · have py : p x6 := by rw [ep]; exact y
      have lt : cntI p (x6 + 1).toNat = cntI p x6.toNat + 1 := cntI_t h6.1 py
      have le := mono (x6 + 1).toNat (c.toNat - (x6 + 1).toNat)
      rw [show (x6 + 1).toNat + (c.toNat - (x6 + 1).toNat) = c.toNat by omega, cn] at le
      rw [el]
      refine ⟨by omega, fun ai2 e2 => ⟨by omega, fun _ e3 => ⟨by omega, fun _ e4 => ?_⟩⟩⟩
      subst e2 e3 e4
      rw [va_up_self, va_up_up]
      have q := vtQ_one (v := x6) hq
      rw [Int.zero_add, ← e5, ← lsI_t h6.1 py] at q
      exact ih _ _ _ ⟨by omega, by rw [lsI_t h6.1 py, List.length_append, List.length_singleton]; omega, _, rfl, q⟩ (by omega)
    · rw [e]
      have py : ¬ p x6 := by rw [ep]; exact y
      exact ih _ _ _ ⟨by omega, by rw [lsI_f h6.1 py]; exact e5, f, rfl, by rw [lsI_f h6.1 py]; exact hq⟩ (by omega)
end

/-! VersionTrans (room VT): a ring is looked for and broken; an attempt -/
section
variable {c la k v t l x e : Int} {wr se pn rf st wf : Int → Int} {vr nt : Int → Int → Int} {ps : List Int} {S T : VS} {MC MS : Nat}
theorem tvA.r {A : Nat → Int → Nat} : tvA c wr vr ps A A := fun _ _ _ _ => rfl
theorem tvA.tt {A A' A'' : Nat → Int → Nat} (h : tvA c wr vr ps A A') (h' : tvA c wr vr ps A' A'') : tvA c wr vr ps A A'' := fun i j n u => (h' i j n u).trans (h i j n u)
/-- falling ranks beside t: what a new wait finds -/
def vRk (c t : Int) (S : VS) : Prop := ∃ rk : Int → Nat, ∀ w, 0 ≤ w → w < c → w ≠ t → S.st w = 1 → rk (S.wf w) < rk w
theorem vRing_D (hS : vtSi S.st S.wf S.si c S.ck) (hc : 0 ≤ c ∧ c ≤ 60) (ht : 0 ≤ t ∧ t < c) {n : Nat} (C : vtCy S.st S.wf t n) : vD c S = vD c (vRing c t S) + 1 := by
  rcases vRing_c hS hc ht with ⟨h, -⟩ | ⟨m, y, C', yb, ⟨⟨i, hi, ei⟩, -⟩, -, e⟩
  · exact absurd C (h n)
  · rw [e]
    have s : S.st y = 1 := by rw [← ei]; exact C'.2.2.1 i hi
    exact vD_dn yb (by omega) (by show ¬ updI S.st y 4 y < 3; rw [updI_s]; decide) (fun w hw => updI_n hw)
variable {kd : Nat → Nat} {an : Nat → Nat} {ai : Nat → Int → Int} {al : Nat → Int → Int} {ar : Nat → Int → Option Nat} {mX5_newest : Nat → Option Nat} {mX5_rows : Nat → Int} {mX5_latest : Nat → Int} {mX5_pins : Nat → Option Nat} {mX5_transactions : Nat → Option Nat} {mX5_count : Nat → Int} {mX5_holders : Nat → Option Nat} {mX5_tripleConflicts : Nat → Option Nat} {mX5_graphConflicts : Nat → Option Nat} {mX5_turns : Nat → Int} {mX5_queue : Nat → Option Nat} {mX5_head : Nat → Int} {mX5_tail : Nat → Int} {mX5_ring : Nat → Option Nat} {mX58_number : Nat → Int} {mX58_sees : Nat → Int} {mX58_state : Nat → Option Nat} {mX59_writes : Nat → Option Nat} {mX59_count : Nat → Int} {mX59_noted : Nat → Option Nat} {mX59_waitsFor : Nat → Option Nat} {mX59_turn : Nat → Int} {mX59_triple : Nat → Int} {mX59_there : Nat → Int} {mX60_version : Nat → Int} {mX60_there : Nat → Int} {mX60_older : Nat → Option Nat} {mX66_version : Nat → Int} {mX66_count : Nat → Int} {mX66_next : Nat → Option Nat} {sa : Nat → Nat} {A : Nat → Int → Nat} {gi : Nat → Nat × Int}
theorem CVT_lookFor {post : (Nat → Nat) → (Nat → Nat) → (Nat → Int → Int) → (Nat → Int → Option Nat) → (Nat → Int) → (Nat → Option Nat) → (Nat → Option Nat) → (Nat → Int) → (Nat → Option Nat) → Prop} (hsa : tvSa sa) (O : tvOK kd an ai al ar mX5_newest mX5_rows mX5_latest mX5_pins mX5_transactions mX5_count mX5_holders mX5_tripleConflicts mX5_graphConflicts mX5_turns mX5_queue mX5_head mX5_tail mX5_ring mX58_number mX58_sees mX58_state mX59_writes mX59_count mX59_noted mX59_waitsFor mX59_turn mX59_triple mX59_there mX60_version mX60_there mX60_older mX66_version mX66_count mX66_next sa A gi S vr la c wr se pn ps nt rf) (J : vJ c wr S) (hr : vRk c t S) (hla : tvVr vr la ∧ la < 64) (hc : 0 ≤ c ∧ c ≤ 59) (ht : 0 ≤ t ∧ t < c) (s1 : S.st t = 1) (hQ : S.Q.length + 60 < 3600) (hM : (∃ n, vtCy S.st S.wf t n) → 1 ≤ MC ∧ 60 ≤ MS) (hp : ∀ A' gi' kd' an' ai' ar' tl rg sm cn wf', tvA c wr vr ps A A' → tvOK (kd') (an') (ai') al (ar') mX5_newest mX5_rows mX5_latest mX5_pins mX5_transactions mX5_count mX5_holders mX5_tripleConflicts mX5_graphConflicts mX5_turns mX5_queue mX5_head tl rg mX58_number mX58_sees sm mX59_writes cn mX59_noted (wf') mX59_turn mX59_triple mX59_there mX60_version mX60_there mX60_older mX66_version mX66_count mX66_next sa A' gi' (vRing c t S) vr la c wr se pn ps nt rf → post kd' an' ai' ar' tl rg sm cn wf') : wpVT_X5_lookForRing MC MS post kd an ai ar mX5_transactions mX5_count mX5_holders mX5_queue mX5_tail mX5_ring mX58_number mX58_state mX59_writes mX59_count mX59_waitsFor mX59_turn sa (A 0 0) (some (A 7 t)) := by
  obtain ⟨⟨G, F, T, R, P, N, ⟨n1, n2, n3⟩, r4⟩, D⟩ := id O
  obtain ⟨d1, d2, d3, d4, d5, d6, d7, d8, d9, d10, d11⟩ := id D
  obtain ⟨j1, j2, j3, j4, j6, j7⟩ := id J
  obtain ⟨rk, hr⟩ := hr
  have hw : ¬ wr t = 0 := (j3 t ht.1 ht.2 s1).2.1
  have hN : ∀ w, 0 ≤ w → w < c → mX58_number (A 7 w) = w := fun w a b => (T w a b).2.1
  have W : ∀ w, 0 ≤ w → w < c → S.st w = 1 → (0 ≤ S.wf w ∧ S.wf w < c) ∧ mX59_waitsFor (A 7 w) = some (A 7 (S.wf w)) ∧ ¬ wr w = 0 ∧ ¬ wr (S.wf w) = 0 := fun w a b s => ⟨(j1.1 w a b s).1, (d2 w a b s).1, (j3 w a b s).2.1, (j3 w a b s).2.2⟩
  unfold wpVT_X5_lookForRing
  refine kOn_some ⟨tvKw G ht hw, fun x4 e4 => ?_⟩
  rw [e4]
  refine CVT_l10 hsa G hc d1 hN W hr ht s1 (fun n y nc => ⟨fun _ => ⟨by omega, by omega, ?_⟩, fun b e => absurd e (by simp)⟩) (fun n y C yb ym => ⟨fun e => absurd e (by simp), fun b eb => ?_⟩)
  · have er : vRing c t S = S := vRing_f nc
    exact hp A gi kd an ai ar mX5_tail mX5_ring mX58_state mX59_count mX59_waitsFor tvA.r (by rw [er]; exact O)
  · have M := hM ⟨n, C⟩
    have nb := C.1
    have hb : ∀ w, 0 ≤ w → w < c → S.st w = 1 → 0 ≤ S.wf w ∧ S.wf w < c := fun w a b s => (j1.1 w a b s).1
    have pb := vtP_w C.2.2.1 hb ht
    refine ⟨⟨by omega, ?_⟩, ⟨by omega, by omega⟩, fun q hq an' ea ks eks ai0 ei rg erg => ?_⟩
    · rw [show ((n : Int)).toNat = n by omega]
      show n * 4 ≤ 536870912
      omega
    rw [show ((n : Int)).toNat = n by omega] at ea eks
    obtain ⟨A', eA⟩ : ∃ A', A' = aUp A 10 0 q := ⟨_, rfl⟩
    have hA : tvA c wr vr ps A A' := fun i j ne _ => by rw [eA, aUp_i ne]
    have a0 : A' 0 0 = A 0 0 := hA 0 0 (by decide) rfl
    have a10 : A' 10 0 = q := by rw [eA, aUp_s]
    have a7 : ∀ w, 0 ≤ w → w < c → A' 7 w = A 7 w := fun w a b => hA 7 w (by decide) ⟨a, b⟩
    have G2 : LabU (tvK wr) tvL (tvU c wr vr ps) (va_up kd q 6) an' A' (gUp gi q 10 0) := by
      have := G.new (K' := tvK wr) (U' := tvU c wr vr ps) hq 10 0 (an' := an') (fun i j u _ => ⟨u, rfl⟩) (show (6 : Nat) ≠ 0 by decide) (fun b hb => by rw [ea]; exact va_up_ne _ _ hb) (fun h => absurd rfl h)
      rw [← eA] at this
      exact this
    have el : an' (A' 10 0) = n := by rw [a10, ea, va_up_self]
    have er : rg (A' 0 0) = some (A' 10 0) := by rw [a10, a0, erg, va_up_self]
    rw [← a0, ← a7 t ht.1 ht.2]
    refine CVT_l83 (kd := va_up kd q 6) (an := an') (ai := ai0) (mX5_ring := rg) ⟨by omega, by omega⟩ G2 (by rw [a0]; exact n3) hc (fun w a b => by rw [a7 w a b]; exact hN w a b) (fun w a b s => by rw [a7 w a b, a7 _ (j1.1 w a b s).1.1 (j1.1 w a b s).1.2]; exact W w a b s) ht C er el (fun f hf => ?_)
    have wy : ¬ wr y = 0 := by
      obtain ⟨⟨i, hi, e⟩, -⟩ := ym
      rw [← e]
      have := pb i (by omega)
      exact (W _ this.1 this.2 (C.2.2.1 i hi)).2.2.1
    have sy : S.st y = 1 := by
      obtain ⟨⟨i, hi, e⟩, -⟩ := ym
      rw [← e]; exact C.2.2.1 i hi
    rw [← a7 y yb.1 yb.2]
    refine kOn_some ⟨tvKw G2 yb wy, fun sm es => ⟨⟨by omega, by omega⟩, ?_⟩⟩
    obtain ⟨Rl, eR⟩ : ∃ Rl, Rl = lsI (fun w => ∃ i, i < n ∧ vtP S.wf t i = w) c.toNat := ⟨_, rfl⟩
    rcases vRing_c j1 (by omega) ht with ⟨h, -⟩ | ⟨m, y', C', yb', ⟨⟨i', hi', ei'⟩, ym'⟩, ⟨Rn, Ry⟩, e⟩
    · exact absurd C (h n)
    have emn := vtCy_u C' C
    subst emn
    have eyy : y' = y := by
      obtain ⟨⟨i, hi, e⟩, ym⟩ := ym
      have a := ym' i hi
      have b := ym i' hi'
      omega
    subst eyy
    rw [← eR] at e hf Rn
    have O2 : tvOK (va_up kd q 6) (an') (va_up ai0 (A' 10 0) f) al ar mX5_newest mX5_rows mX5_latest mX5_pins mX5_transactions mX5_count mX5_holders mX5_tripleConflicts mX5_graphConflicts mX5_turns mX5_queue mX5_head mX5_tail rg mX58_number mX58_sees mX58_state mX59_writes mX59_count mX59_noted mX59_waitsFor mX59_turn mX59_triple mX59_there mX60_version mX60_there mX60_older mX66_version mX66_count mX66_next sa A' (gUp gi q 10 0) (VS.mk S.st S.ws S.wf S.wt S.wl S.si S.ck S.ho S.Q Rl S.fl) vr la c wr se pn ps nt rf := by
      have gai : ∀ i, i ≠ 10 → AgC (tvU c wr vr ps) A i ai (va_up ai0 (A' 10 0) f) := fun i _ => by
        rw [a10, ei]; exact (AgC.f G hq).t (AgC.f G hq)
      refine ⟨⟨G2, F.tr hA, T.tr hA rfl AgC.r AgC.r AgC.r AgC.r, R.tr hla.1 hla.2 hA rfl AgC.r AgC.r AgC.r, ⟨by rw [a0]; exact tvPl.tr hA AgC.r ps _ (fun w h => h) P.1, P.2.tr hA AgC.r AgC.r⟩, N.tr hA (gai 9 (by decide)), by rw [a0]; exact ⟨n1, n2, n3⟩, fun g a b => by rw [hA 5 0 (by decide) rfl, gai 5 (by decide) 0 rfl]; exact r4 g a b⟩, d1.tr hA AgC.r, d2.tr hb hA AgC.r AgC.r AgC.r AgC.r, d3.tr hA (gai 8 (by decide)) AgC.r, d4.tr (fun k a b => (j2 k a b).imp id (fun q => q.1)) hA rfl, by rw [a0]; exact d5.tr (fun w q => (j4 w q).1) hA rfl, by rw [a0]; exact d6, fun k a b => by rw [hA 4 0 (by decide) rfl, gai 4 (by decide) 0 rfl]; exact d7 k a b, er, ?_, ?_, ?_⟩
      · rw [el]; exact Rn.symm
      · rw [va_up_self]; exact hf
      · show Rl.length ≤ 60
        omega
    have J2 : vJ c wr (VS.mk S.st S.ws S.wf S.wt S.wl S.si S.ck S.ho S.Q Rl S.fl) := J
    refine CVT_end (kd := va_up kd q 6) (an := an') (ai := va_up ai0 (A' 10 0) f) (mX5_ring := rg) (mX58_state := sm) (sm0 := mX58_state) (S := VS.mk S.st S.ws S.wf S.wt S.wl S.si S.ck S.ho S.Q Rl S.fl) (x := 4) hsa es O2 J2 hc yb wy (by decide) hQ (fun ai' ar' tl cn wf' O3 => ⟨by omega, by omega, ?_⟩)
    exact hp A' _ _ _ _ _ _ _ _ _ _ hA (by rw [e]; exact O3)
theorem CVT_write {post : (Nat → Int → Int) → (Nat → Int) → Prop} (G : LabU (tvK wr) tvL (tvU c wr vr ps) kd an A gi) (ht : 0 ≤ t ∧ t < c) (hw : ¬ wr t = 0) (W : mX59_writes (A 7 t) = some (A 8 t)) (ek : mX59_triple (A 7 t) = k) (hk : 0 ≤ k ∧ k < 200) (ee : mX59_there (A 7 t) = e) (hn : 0 ≤ mX59_count (A 7 t) ∧ mX59_count (A 7 t) ≤ 200) (hp : post (va_up ai (A 8 t) (updI (ai (A 8 t)) k (if e = 0 then 2 else 1))) (va_up mX59_count (A 7 t) (mX59_count (A 7 t) + if ai (A 8 t) k = 0 then 1 else 0))) : wpVT_X59_write post kd an ai mX59_writes mX59_count mX59_triple mX59_there (A 7 t) := by
  have U8 : tvU c wr vr ps 8 t := ⟨ht, hw⟩
  have k8 := G.k 8 t U8
  have l8 := G.l 8 t U8 (by decide)
  have q2 : w8 2 = 2 := by decide
  have q1 : w8 1 = 1 := by decide
  have fin : ∀ cn : Nat → Int, cn = va_up mX59_count (A 7 t) (mX59_count (A 7 t) + if ai (A 8 t) k = 0 then 1 else 0) → wVT_X59_write_22 post (A 7 t) kd an ai mX59_writes cn mX59_triple mX59_there := fun cn ecn => by
    unfold wVT_X59_write_22
    rw [ek, ee]
    refine ⟨fun z v ev => kOn_of W ⟨k8, by rw [l8]; exact hk, by rw [ev, q2]; decide, fun ai' ea => ?_⟩, fun z v ev => kOn_of W ⟨k8, by rw [l8]; exact hk, by rw [ev, q1]; decide, fun ai' ea => ?_⟩⟩
    · rw [if_pos z] at hp
      rw [ea, ev, q2, ecn]; exact hp
    · rw [if_neg z] at hp
      rw [ea, ev, q1, ecn]; exact hp
  unfold wpVT_X59_write
  rw [ek]
  refine kOn_of W ⟨k8, by rw [l8]; exact hk, fun z => ⟨by omega, fun _ e1 cn e2 => fin cn ?_⟩, fun z => fin _ ?_⟩
  · rw [e2, e1, if_pos z]
  · rw [if_neg z, Int.add_zero]; exact (va_up_id rfl).symm
theorem vtWs_u {ws : Int → Int} (hk : 0 ≤ k ∧ k < 200) (h0 : 0 ≤ ws (200 * t + k)) (hx : 0 < x) : vtWs 200 (updI ws (200 * t + k) x) t = vtWs 200 ws t + if ws (200 * t + k) = 0 then 1 else 0 := by
  unfold vtWs
  by_cases z : ws (200 * t + k) = 0
  · have := cntI_u (p := fun j => 0 < ws (200 * t + j)) (q := fun j => 0 < updI ws (200 * t + k) x (200 * t + j)) (x0 := k) hk.1 (by show ¬ 0 < ws (200 * t + k); omega) (by show 0 < updI ws (200 * t + k) x (200 * t + k); rw [updI_s]; exact hx) (fun j hj => by show 0 < ws (200 * t + j) ↔ 0 < updI ws (200 * t + k) x (200 * t + j); rw [updI_n (by omega)]) 200
    rw [if_pos (by omega)] at this
    rw [if_pos z]; exact this
  · rw [if_neg z, Int.add_zero]
    refine cntI_c (fun j a b => ?_)
    by_cases e : j = k
    · subst e; rw [updI_s]; exact ⟨fun _ => by omega, fun _ => hx⟩
    · rw [updI_n (by omega)]
/-- one waits: what holds then -/
def vWait (t k e h : Int) (S : VS) : VS := VS.mk (updI (updI S.st t 0) t 1) S.ws (updI (updI S.wf t (-1)) t h) (updI S.wt t k) (updI S.wl t e) (updI S.si t S.ck) (S.ck + 1) S.ho S.Q S.R S.fl
theorem vWait_J (hI : vI c wr S) (ht : 0 ≤ t ∧ t < c) (hw : ¬ wr t = 0) (hs : S.st t < 3) (hk : 0 ≤ k ∧ k < 200) (he : e = 0 ∨ e = 1) (hb : 0 ≤ S.ho k ∧ S.ho k ≠ t) (hc : 0 ≤ c) : vJ c wr (vWait t k e (S.ho k) S) ∧ vRk c t (vWait t k e (S.ho k) S) ∧ vD c (vWait t k e (S.ho k) S) = vD c S := by
  obtain ⟨⟨i1, i2, i3, i4, i6, i7⟩, rk, i5⟩ := hI
  have hb' : (0 ≤ S.ho k ∧ S.ho k < c) ∧ S.st (S.ho k) < 3 ∧ wr (S.ho k) ≠ 0 := by
    rcases i2 k hk.1 hk.2 with e | e
    · omega
    · exact e
  have s1 : (vWait t k e (S.ho k) S).st t = 1 := updI_s
  have s0 : ∀ w, w ≠ t → (vWait t k e (S.ho k) S).st w = S.st w := fun w h => (updI_n h).trans (updI_n h)
  have f1 : (vWait t k e (S.ho k) S).wf t = S.ho k := updI_s
  have f0 : ∀ w, w ≠ t → (vWait t k e (S.ho k) S).wf w = S.wf w := fun w h => (updI_n h).trans (updI_n h)
  refine ⟨⟨vtSi_w i1 i6 hb'.1, fun k' a b => ?_, fun w a b h => ?_, i4, by show 0 ≤ S.ck + 1; omega, fun w a b => ?_⟩, ⟨rk, fun w a b ne h => ?_⟩, vD_eq (fun w a b => ?_) hc⟩
  · show S.ho k' = -1 ∨ ((0 ≤ S.ho k' ∧ S.ho k' < c) ∧ (vWait t k e (S.ho k) S).st (S.ho k') < 3 ∧ wr (S.ho k') ≠ 0)
    rcases i2 k' a b with e' | ⟨e1, e2, e3⟩
    · exact Or.inl e'
    · refine Or.inr ⟨e1, ?_, e3⟩
      by_cases h : S.ho k' = t
      · rw [h, s1]; decide
      · rw [s0 _ h]; exact e2
  · by_cases e' : w = t
    · subst e'
      rw [f1]
      refine ⟨?_, hw, hb'.2.2⟩
      have x1 : (vWait w k e (S.ho k) S).wt w = k := updI_s
      have x2 : (vWait w k e (S.ho k) S).wl w = e := updI_s
      rw [x1, x2]; exact ⟨hk, he⟩
    · rw [s0 w e'] at h
      rw [f0 w e']
      have x1 : (vWait t k e (S.ho k) S).wt w = S.wt w := updI_n e'
      have x2 : (vWait t k e (S.ho k) S).wl w = S.wl w := updI_n e'
      rw [x1, x2]; exact i3 w a b h
  · by_cases e' : w = t
    · rw [e', s1]; decide
    · rw [s0 w e']; exact i7 w a b
  · rw [s0 w ne] at h
    rw [f0 w ne]
    exact i5 w a b h
  · by_cases e' : w = t
    · rw [e', s1]; exact ⟨fun _ => hs, fun _ => by decide⟩
    · rw [s0 w e']
theorem CVT_attempt {post : (Nat → Nat) → (Nat → Nat) → (Nat → Int → Int) → (Nat → Int → Option Nat) → (Nat → Int) → (Nat → Int) → (Nat → Option Nat) → (Nat → Option Nat) → (Nat → Int) → (Nat → Option Nat) → (Nat → Int) → Prop} {kk : Int} (hsa : tvSa sa) (O : tvOK kd an ai al ar mX5_newest mX5_rows mX5_latest mX5_pins mX5_transactions mX5_count mX5_holders mX5_tripleConflicts mX5_graphConflicts mX5_turns mX5_queue mX5_head mX5_tail mX5_ring mX58_number mX58_sees mX58_state mX59_writes mX59_count mX59_noted mX59_waitsFor mX59_turn mX59_triple mX59_there mX60_version mX60_there mX60_older mX66_version mX66_count mX66_next sa A gi S vr la c wr se pn ps nt rf) (I : vI c wr S) (hla : tvVr vr la ∧ la < 64) (hc : 0 ≤ c ∧ c ≤ 59) (ht : 0 ≤ t ∧ t < c) (hw : ¬ wr t = 0) (hs : S.st t < 3) (hk : 0 ≤ kk ∧ kk < 200) (he : e = 0 ∨ e = 1) (ek : mX59_triple (A 7 t) = kk) (ee : mX59_there (A 7 t) = e) (hwS : 0 ≤ S.ws (200 * t + kk) ∧ S.ws (200 * t + kk) ≤ 2) (hck : S.ck ≤ 1000000) (hfl : 0 ≤ S.fl kk ∧ S.fl kk ≤ 1000000) (hQ : S.Q.length + 60 < 3600) (hM : vD c S = vD c (vWrite c vr se t kk e S) + 1 → 1 ≤ MC ∧ 60 ≤ MS) (hp : ∀ A' gi' kd' an' ai' ar' tn tl rg sm cn wf' tu, tvA c wr vr ps A A' → tvOK (kd') (an') (ai') al (ar') mX5_newest mX5_rows mX5_latest mX5_pins mX5_transactions mX5_count mX5_holders mX5_tripleConflicts mX5_graphConflicts tn mX5_queue mX5_head tl rg mX58_number mX58_sees sm mX59_writes cn mX59_noted (wf') tu mX59_triple mX59_there mX60_version mX60_there mX60_older mX66_version mX66_count mX66_next sa A' gi' (vWrite c vr se t kk e S) vr la c wr se pn ps nt rf → post kd' an' ai' ar' tn tl rg sm cn wf' tu) : wpVT_X5_attempt MC MS post kd an ai ar mX5_newest mX5_transactions mX5_count mX5_holders mX5_tripleConflicts mX5_turns mX5_queue mX5_tail mX5_ring mX58_number mX58_sees mX58_state mX59_writes mX59_count mX59_waitsFor mX59_turn mX59_triple mX59_there mX60_version sa (A 0 0) (some (A 7 t)) := by
  obtain ⟨⟨G, F, T, R, P, N, ⟨n1, n2, n3⟩, r4⟩, d1, d2, d3, d4, d5, d6, d7, d8, d9, d10, d11⟩ := id O
  obtain ⟨⟨j1, j2, j3, j4, j6, j7⟩, j5⟩ := id I
  have U8 : tvU c wr vr ps 8 t := ⟨ht, hw⟩
  have n7 : ∀ w, 0 ≤ w → w < c → w ≠ t → A 7 w ≠ A 7 t := fun w a b h => G.ne (i := 7) (i' := 7) ⟨a, b⟩ ht (Or.inr h)
  have T1 := T t ht.1 ht.2
  have ho := d4 kk hk.1 hk.2
  have D3 := d3 t ht.1 ht.2 hw hs
  unfold wpVT_X5_attempt
  refine kOn_some ⟨tvKw G ht hw, fun sm3 e3 wf4 e4 => kOn_of F.2.2.1 ⟨G.k 3 0 rfl, ?_⟩⟩
  rw [ek, G.l 3 0 rfl (by decide)]
  refine ⟨hk, fun r8 e8 => ⟨⟨by omega, by omega⟩, ?_⟩⟩
  rw [ho] at e8
  rw [T1.2.2.1]
  refine CVT_isChangedB G F.1 R hla.1 hla.2 hk (fun ab => ?_) (fun ab => ?_)
  · -- a row above: it fails
    have eV : vWrite c vr se t kk e S = VS.mk (updI (updI S.st t 0) t 2) S.ws (updI S.wf t (-1)) S.wt S.wl S.si S.ck S.ho S.Q S.R (updI S.fl kk (S.fl kk + 1)) := by unfold vWrite; exact pif_t ab
    rw [eV] at hp
    intro sm46 e46
    refine kOn_of F.2.2.2.1 ⟨G.k 4 0 rfl, ?_⟩
    rw [G.l 4 0 rfl (by decide), d7 kk hk.1 hk.2]
    refine ⟨hk, by omega, fun v ev ai' ea => ⟨by omega, by omega, hp A gi _ _ _ _ _ _ _ _ _ _ _ tvA.r ?_⟩⟩
    have n4 : ∀ i j, tvU c wr vr ps i j → i ≠ 4 → A i j ≠ A 4 0 := fun i j u h => G.ne u (i' := 4) (j' := 0) rfl (Or.inl h)
    have E2 : tvE kd an (ai') al ar mX5_newest mX5_rows mX5_latest mX5_pins mX5_transactions mX5_count mX5_holders mX5_tripleConflicts mX5_graphConflicts mX5_turns mX5_queue mX5_head mX5_tail mX5_ring mX58_number mX58_sees mX58_state mX59_writes mX59_count mX59_noted mX59_waitsFor mX59_turn mX59_triple mX59_there mX60_version mX60_there mX60_older mX66_version mX66_count mX66_next A gi vr la c wr se pn ps nt rf := by
      rw [ea]
      exact tvE.nai ⟨G, F, T, R, P, N, ⟨n1, n2, n3⟩, r4⟩ (fun i j u h => n4 i j u (by omega))
    have od : ∀ w, updI (updI S.st t 0) t 2 w = 1 → w ≠ t ∧ S.st w = 1 := fun w h => by
      by_cases e : w = t
      · rw [e, updI_s] at h; omega
      · rw [updI_n e, updI_n e] at h; exact ⟨e, h⟩
    refine ⟨E2, fun w a b => ?_, fun w a b s => ?_, fun w a b q s => ?_, d4, d5, d6, fun k a b => ?_, d8, d9, ?_, d11⟩
    · show sm46 (A 7 w) = some (sa (5 + (updI (updI S.st t 0) t 2 w).toNat)) ∧ 0 ≤ updI (updI S.st t 0) t 2 w ∧ updI (updI S.st t 0) t 2 w ≤ 4
      rw [e46, e3]
      by_cases q : w = t
      · subst q; rw [va_up_self, updI_s]; exact ⟨rfl, by decide, by decide⟩
      · rw [va_up_ne _ _ (n7 w a b q), va_up_ne _ _ (n7 w a b q), updI_n q, updI_n q]; exact d1 w a b
    · obtain ⟨q, s'⟩ := od w s
      show wf4 (A 7 w) = some (A 7 (updI S.wf t (-1) w)) ∧ _
      rw [e4, va_up_ne _ _ (n7 w a b q), updI_n q]; exact d2 w a b s'
    · have s' : S.st w < 3 := by
        have s : updI (updI S.st t 0) t 2 w < 3 := s
        by_cases q : w = t
        · subst q; exact hs
        · rw [updI_n q, updI_n q] at s; exact s
      rw [ea, va_up_ne _ _ (n4 8 w ⟨⟨a, b⟩, q⟩ (by decide))]
      exact d3 w a b q s'
    · show ai' (A 4 0) k = updI S.fl kk (S.fl kk + 1) k
      rw [ea, va_up_self, ev]
      by_cases q : k = kk
      · subst q; rw [updI_s, updI_s]
      · rw [updI_n q, updI_n q]; exact d7 k a b
    · rw [ea, va_up_ne _ _ (n4 10 0 rfl (by decide))]; exact d10
  · have wr3 : ¬ (0 ≤ S.ho kk ∧ S.ho kk ≠ t) → ∀ ar14 : Nat → Int → Option Nat, ar14 = va_up ar (A 3 0) (updI (ar (A 3 0)) kk (some (A 7 t))) → ((0 ≤ MC ∧ 0 ≤ MS) ∧ wpVT_X59_write (fun (ai_15 : Nat → Int → Int) (mX59_count_16 : Nat → Int) => ((0 ≤ MC ∧ 0 ≤ MS ∧ post kd an ai_15 ar14 mX5_turns mX5_tail mX5_ring sm3 mX59_count_16 wf4 mX59_turn))) kd an ai mX59_writes mX59_count mX59_triple mX59_there (A 7 t)) := fun nb ar14 e14 => by
      have eV : vWrite c vr se t kk e S = VS.mk (updI S.st t 0) (updI S.ws (200 * t + kk) (if e = 0 then 1 else 2)) (updI S.wf t (-1)) S.wt S.wl S.si S.ck (updI S.ho kk t) S.Q S.R S.fl := by unfold vWrite; rw [pif_f ab]; exact pif_f nb
      rw [eV] at hp
      have cb := cntI_b (fun j => 0 < S.ws (200 * t + j)) 200
      have cb' : 0 ≤ vtWs 200 S.ws t ∧ vtWs 200 S.ws t ≤ ((200 : Nat) : Int) := cb
      have zz := tvB_e hwS
      have a8 := D3.1 kk hk.1 hk.2
      refine ⟨⟨by omega, by omega⟩, CVT_write G ht hw (T1.2.2.2 hw).1 ek hk ee (by rw [D3.2]; omega) ⟨by omega, by omega, hp A gi _ _ _ _ _ _ _ _ _ _ _ tvA.r ?_⟩⟩
      have n8 : ∀ i j, tvU c wr vr ps i j → ¬ (i = 8 ∧ j = t) → A i j ≠ A 8 t := fun i j u h => G.ne u U8 (by
        by_cases q : i = 8
        · exact Or.inr (fun q2 => h ⟨q, q2⟩)
        · exact Or.inl q)
      have n3' : ∀ i, i ≠ 3 → tvU c wr vr ps i 0 → A i 0 ≠ A 3 0 := fun i h u => G.ne u (i' := 3) (j' := 0) rfl (Or.inl h)
      have E2 : tvE kd an (va_up ai (A 8 t) (updI (ai (A 8 t)) kk (if e = 0 then 2 else 1))) al ar14 mX5_newest mX5_rows mX5_latest mX5_pins mX5_transactions mX5_count mX5_holders mX5_tripleConflicts mX5_graphConflicts mX5_turns mX5_queue mX5_head mX5_tail mX5_ring mX58_number mX58_sees mX58_state mX59_writes mX59_count mX59_noted mX59_waitsFor mX59_turn mX59_triple mX59_there mX60_version mX60_there mX60_older mX66_version mX66_count mX66_next A gi vr la c wr se pn ps nt rf := by
        rw [e14]
        exact tvE.nar (tvE.nai ⟨G, F, T, R, P, N, ⟨n1, n2, n3⟩, r4⟩ (fun i j u h => n8 i j u (by omega))) (fun i u h => n3' i (by omega) u)
      have od : ∀ w, updI S.st t 0 w = 1 → w ≠ t ∧ S.st w = 1 := fun w h => by
        by_cases e : w = t
        · rw [e, updI_s] at h; omega
        · rw [updI_n e] at h; exact ⟨e, h⟩
      refine ⟨E2, fun w a b => ?_, fun w a b s => ?_, fun w a b q s => ⟨fun k p p2 => ?_, ?_⟩, fun k a b => ?_, ⟨d5.1, d5.2.1, d5.2.2.1, fun i hi => ?_⟩, d6, fun k a b => ?_, d8, d9, ?_, d11⟩
      · show sm3 (A 7 w) = some (sa (5 + (updI S.st t 0 w).toNat)) ∧ 0 ≤ updI S.st t 0 w ∧ updI S.st t 0 w ≤ 4
        rw [e3]
        by_cases q : w = t
        · subst q; rw [va_up_self, updI_s]; exact ⟨rfl, by decide, by decide⟩
        · rw [va_up_ne _ _ (n7 w a b q), updI_n q]; exact d1 w a b
      · obtain ⟨q, s'⟩ := od w s
        show wf4 (A 7 w) = some (A 7 (updI S.wf t (-1) w)) ∧ _
        rw [e4, va_up_ne _ _ (n7 w a b q), updI_n q]; exact d2 w a b s'
      · show _ = tvB (updI S.ws (200 * t + kk) (if e = 0 then 1 else 2) (200 * w + k))
        by_cases q2 : w = t
        · subst q2
          rw [va_up_self]
          by_cases q3 : k = kk
          · subst q3; rw [updI_s, updI_s]; rcases he with rfl | rfl <;> decide
          · rw [updI_n q3, updI_n (by omega)]; exact D3.1 k p p2
        · have s' : S.st w < 3 := by
            have s : updI S.st t 0 w < 3 := s
            rw [updI_n q2] at s; exact s
          rw [va_up_ne _ _ (n8 8 w ⟨⟨a, b⟩, q⟩ (fun h => q2 h.2)), updI_n (by omega)]
          exact (d3 w a b q s').1 k p p2
      · show _ = vtWs 200 (updI S.ws (200 * t + kk) (if e = 0 then 1 else 2)) w
        by_cases q2 : w = t
        · subst q2
          rw [va_up_self, vtWs_u hk hwS.1 (by split <;> decide), D3.2, a8]
          by_cases z : S.ws (200 * w + kk) = 0
          · rw [if_pos (zz.1.mpr z), if_pos z]
          · rw [if_neg (fun q => z (zz.1.mp q)), if_neg z]
        · have s' : S.st w < 3 := by
            have s : updI S.st t 0 w < 3 := s
            rw [updI_n q2] at s; exact s
          rw [va_up_ne _ _ (n7 w a b q2), (d3 w a b q s').2]
          exact cntI_c (fun j p p2 => by rw [updI_n (by omega)])
      · show ar14 (A 3 0) k = tvO A (updI S.ho kk t k)
        rw [e14, va_up_self]
        by_cases q : k = kk
        · subst q; rw [updI_s, updI_s]; unfold tvO; rw [if_neg (by omega)]
        · rw [updI_n q, updI_n q]; exact d4 k a b
      · rw [e14, va_up_ne _ _ (n3' 6 (by decide) rfl)]; exact d5.2.2.2 i hi
      · rw [va_up_ne _ _ (n8 4 0 rfl (by omega))]; exact d7 k a b
      · rw [va_up_ne _ _ (n8 10 0 rfl (by omega))]; exact d10
    refine ⟨fun en => wr3 (fun q => ?_), fun b12 eb => ⟨fun et => wr3 (fun q => ?_), fun nt' => ?_⟩⟩
    · rw [e8] at en
      unfold tvO at en
      rw [if_neg (by omega)] at en
      exact absurd en (by simp)
    · rw [e8] at et
      unfold tvO at et
      rw [if_neg (by omega)] at et
      have hb : 0 ≤ S.ho kk ∧ S.ho kk < c := by
        rcases j2 kk hk.1 hk.2 with h | h <;> omega
      exact q.2 (G.inj (i := 7) hb ht (Option.some.inj et))
    · have hm1 : ¬ S.ho kk = -1 := fun q => by
        rw [eb] at e8
        unfold tvO at e8
        rw [if_pos q] at e8
        exact absurd e8 (by simp)
      have hb0 : (0 ≤ S.ho kk ∧ S.ho kk < c) ∧ S.st (S.ho kk) < 3 ∧ wr (S.ho kk) ≠ 0 := (j2 kk hk.1 hk.2).resolve_left hm1
      have er8 : r8 = some (A 7 (S.ho kk)) := by rw [e8]; unfold tvO; exact if_neg hm1
      have hnt : S.ho kk ≠ t := fun q => nt' (by rw [er8, q])
      have eV : vWrite c vr se t kk e S = vRing c t (vWait t kk e (S.ho kk) S) := by unfold vWrite; rw [pif_f ab]; exact pif_t ⟨hb0.1.1, hnt⟩
      rw [eV] at hp hM
      obtain ⟨TJ, TR, TD⟩ := vWait_J I ht hw hs hk he ⟨hb0.1.1, hnt⟩ hc.1
      intro sm23 e23 wf24 e24
      rw [d6]
      refine ⟨by omega, fun _ e28 tn e29 _ e30 tu e31 => ?_⟩
      subst e28
      have etn : tn (A 0 0) = S.ck + 1 := by rw [e29, va_up_self]
      rw [etn] at e30
      subst e30
      have od : ∀ w, w ≠ t → (vWait t kk e (S.ho kk) S).st w = S.st w := fun w h => (updI_n h).trans (updI_n h)
      have O2 : tvOK kd an ai al ar mX5_newest mX5_rows mX5_latest mX5_pins mX5_transactions mX5_count mX5_holders mX5_tripleConflicts mX5_graphConflicts tn mX5_queue mX5_head mX5_tail mX5_ring mX58_number mX58_sees sm23 mX59_writes mX59_count mX59_noted wf24 tu mX59_triple mX59_there mX60_version mX60_there mX60_older mX66_version mX66_count mX66_next sa A gi (vWait t kk e (S.ho kk) S) vr la c wr se pn ps nt rf := by
        refine ⟨⟨G, F, T, R, P, N, ⟨n1, n2, n3⟩, r4⟩, fun w a b => ?_, fun w a b s => ?_, fun w a b q s => ?_, d4, d5, etn, d7, d8, d9, d10, d11⟩
        · show sm23 (A 7 w) = some (sa (5 + (updI (updI S.st t 0) t 1 w).toNat)) ∧ 0 ≤ updI (updI S.st t 0) t 1 w ∧ updI (updI S.st t 0) t 1 w ≤ 4
          rw [e23, e3]
          by_cases q : w = t
          · subst q; rw [va_up_self, updI_s]; exact ⟨rfl, by decide, by decide⟩
          · rw [va_up_ne _ _ (n7 w a b q), va_up_ne _ _ (n7 w a b q), updI_n q, updI_n q]; exact d1 w a b
        · show wf24 (A 7 w) = some (A 7 (updI (updI S.wf t (-1)) t (S.ho kk) w)) ∧ tu (A 7 w) = updI S.si t S.ck w + 1 ∧ mX59_triple (A 7 w) = updI S.wt t kk w ∧ mX59_there (A 7 w) = updI S.wl t e w
          rw [e24, e4, e31]
          by_cases q : w = t
          · subst q
            rw [va_up_self, va_up_self, updI_s, updI_s, updI_s, updI_s]
            exact ⟨er8, rfl, ek, ee⟩
          · rw [od w q] at s
            rw [va_up_ne _ _ (n7 w a b q), va_up_ne _ _ (n7 w a b q), va_up_ne _ _ (n7 w a b q), updI_n q, updI_n q, updI_n q, updI_n q, updI_n q]
            exact d2 w a b s
        · have s' : S.st w < 3 := by
            by_cases q2 : w = t
            · subst q2; exact hs
            · rw [od w q2] at s; exact s
          exact d3 w a b q s'
      have st1 : (vWait t kk e (S.ho kk) S).st t = 1 := updI_s
      by_cases cy : ∃ n, vtCy (vWait t kk e (S.ho kk) S).st (vWait t kk e (S.ho kk) S).wf t n
      · obtain ⟨n, C⟩ := cy
        have M := hM (by rw [← TD]; exact vRing_D TJ.1 (by omega) ht C)
        exact ⟨1, 60, ⟨by omega, by omega⟩, CVT_lookFor hsa O2 TJ TR hla hc ht st1 hQ (fun _ => ⟨by decide, by decide⟩) (fun A' gi' kd' an' ai' ar' tl rg sm cn wf' hA O3 _ => ⟨by omega, by omega, hp A' gi' kd' an' ai' ar' tn tl rg sm cn wf' tu hA O3⟩)⟩
      · exact ⟨0, 0, ⟨by omega, by omega⟩, CVT_lookFor hsa O2 TJ TR hla hc ht st1 hQ (fun q => absurd q cy) (fun A' gi' kd' an' ai' ar' tl rg sm cn wf' hA O3 _ => ⟨by omega, by omega, hp A' gi' kd' an' ai' ar' tn tl rg sm cn wf' tu hA O3⟩)⟩
end

/-! VersionTrans (room VT): all that is in the queue is tried again -/
section
variable {c la k v t l x e : Int} {wr se pn rf st wf : Int → Int} {vr nt : Int → Int → Int} {ps : List Int} {S T : VS} {MC MS : Nat}
theorem tvQ.pop {ar : Nat → Int → Option Nat} {A : Nat → Int → Nat} {h tl y : Int} {L : List Int} (H : tvQ ar h tl A (y :: L)) : tvQ (va_up ar (A 6 0) (updI (ar (A 6 0)) h none)) ((h + 1) % 3600) tl A L := by
  obtain ⟨q1, q2, q3, q4⟩ := H
  rw [List.length_cons] at q2 q3 q4
  refine ⟨by omega, by omega, by omega, fun i hi => ?_⟩
  have := q4 (i + 1) (by omega)
  rw [va_up_self, updI_n (by omega), show ((h + 1) % 3600 + (i : Int)) % 3600 = (h + ((i + 1 : Nat) : Int)) % 3600 by omega, this]
  simp
theorem tvQ.hd {ar : Nat → Int → Option Nat} {A : Nat → Int → Nat} {h tl y : Int} {L : List Int} (H : tvQ ar h tl A (y :: L)) : ar (A 6 0) h = some (A 7 y) := by
  have := H.2.2.2 0 (by simp)
  have h1 := H.1
  rw [show (h + ((0 : Nat) : Int)) % 3600 = h by omega] at this
  rw [this]; simp
theorem vWrite_D (hI : vI c wr S) (hc : 0 ≤ c ∧ c ≤ 60) (ht : 0 ≤ t ∧ t < c) (hr : wr t ≠ 0) (hs : S.st t < 3) (hk : 0 ≤ k ∧ k < 200) (he : e = 0 ∨ e = 1) : vD c (vWrite c vr se t k e S) ≤ vD c S := by
  have eqD : ∀ {S' : VS}, (∀ w, w ≠ t → S'.st w = S.st w) → S'.st t < 3 → vD c S' = vD c S := fun {S'} h1 h2 => vD_eq (fun w a b => by
    by_cases q : w = t
    · subst q; exact ⟨fun _ => hs, fun _ => h2⟩
    · rw [h1 w q]) hc.1
  by_cases a : vtAb vr k (se t)
  · have : vWrite c vr se t k e S = VS.mk (updI (updI S.st t 0) t 2) S.ws (updI S.wf t (-1)) S.wt S.wl S.si S.ck S.ho S.Q S.R (updI S.fl k (S.fl k + 1)) := by unfold vWrite; exact pif_t a
    rw [this]
    exact Int.le_of_eq (eqD (fun w h => (updI_n h).trans (updI_n h)) (by show updI (updI S.st t 0) t 2 t < 3; rw [updI_s]; decide))
  · by_cases b : 0 ≤ S.ho k ∧ S.ho k ≠ t
    · have : vWrite c vr se t k e S = vRing c t (vWait t k e (S.ho k) S) := by unfold vWrite; rw [pif_f a]; exact pif_t b
      rw [this]
      obtain ⟨TJ, -, TD⟩ := vWait_J hI ht hr hs hk he b hc.1
      by_cases cy : ∃ n, vtCy (vWait t k e (S.ho k) S).st (vWait t k e (S.ho k) S).wf t n
      · obtain ⟨n, C⟩ := cy
        have := vRing_D TJ.1 hc ht C
        omega
      · rw [vRing_f (fun n C => cy ⟨n, C⟩)]; omega
    · have : vWrite c vr se t k e S = VS.mk (updI S.st t 0) (updI S.ws (200 * t + k) (if e = 0 then 1 else 2)) (updI S.wf t (-1)) S.wt S.wl S.si S.ck (updI S.ho k t) S.Q S.R S.fl := by unfold vWrite; rw [pif_f a]; exact pif_f b
      rw [this]
      exact Int.le_of_eq (eqD (fun w h => updI_n h) (by show updI S.st t 0 t < 3; rw [updI_s]; decide))
theorem vRing_ws : (vRing c t S).ws = S.ws := by
  by_cases cy : ∃ n, vtCy S.st S.wf t n
  · unfold vRing; rw [pif_t cy]; rfl
  · rw [vRing_f (fun n C => cy ⟨n, C⟩)]
/-- writes stay 0, 1 or 2, and are made by writers -/
def vWs (c : Int) (wr : Int → Int) (S : VS) : Prop := (∀ x, 0 ≤ x → x < 12000 → 0 ≤ S.ws x ∧ S.ws x ≤ 2) ∧ ∀ t k, 0 ≤ t → (c ≤ t ∨ wr t = 0) → 0 ≤ k → k < 200 → S.ws (200 * t + k) = 0
theorem vWrite_ws (W : vWs c wr S) (ht : 0 ≤ t ∧ t < c) (hr : wr t ≠ 0) (hk : 0 ≤ k ∧ k < 200) : vWs c wr (vWrite c vr se t k e S) := by
  by_cases a : vtAb vr k (se t)
  · have : vWrite c vr se t k e S = VS.mk (updI (updI S.st t 0) t 2) S.ws (updI S.wf t (-1)) S.wt S.wl S.si S.ck S.ho S.Q S.R (updI S.fl k (S.fl k + 1)) := by unfold vWrite; exact pif_t a
    rw [this]; exact W
  · by_cases b : 0 ≤ S.ho k ∧ S.ho k ≠ t
    · have : vWrite c vr se t k e S = vRing c t (vWait t k e (S.ho k) S) := by unfold vWrite; rw [pif_f a]; exact pif_t b
      unfold vWs
      rw [this, vRing_ws]; exact W
    · have : vWrite c vr se t k e S = VS.mk (updI S.st t 0) (updI S.ws (200 * t + k) (if e = 0 then 1 else 2)) (updI S.wf t (-1)) S.wt S.wl S.si S.ck (updI S.ho k t) S.Q S.R S.fl := by unfold vWrite; rw [pif_f a]; exact pif_f b
      rw [this]
      refine ⟨fun x p q => ?_, fun t' k' p q p2 q2 => ?_⟩
      · show 0 ≤ updI S.ws (200 * t + k) (if e = 0 then 1 else 2) x ∧ updI S.ws (200 * t + k) (if e = 0 then 1 else 2) x ≤ 2
        by_cases h : x = 200 * t + k
        · rw [h, updI_s]; split <;> decide
        · rw [updI_n h]; exact W.1 x p q
      · show updI S.ws (200 * t + k) (if e = 0 then 1 else 2) (200 * t' + k') = 0
        have : t' ≠ t := fun h => by
          subst h
          rcases q with q | q
          · omega
          · exact hr q
        rw [updI_n (by omega)]
        exact W.2 t' k' p q p2 q2
theorem vStep_ws (W : vWs c wr S) (hI : vI c wr S) (h : ¬ S.Q = []) : vWs c wr (vStep c vr se S) := by
  have hm : S.Q.headD 0 ∈ S.Q := by
    cases hq : S.Q with
    | nil => exact absurd hq h
    | cons a l => exact List.mem_cons_self
  have hb := hI.1.2.2.2.1 _ hm
  unfold vStep
  by_cases e : S.st (S.Q.headD 0) = 1
  · rw [if_pos e]
    have w := hI.1.2.2.1 _ hb.1.1 hb.1.2 e
    exact vWrite_ws (S := S.pop) W hb.1 hb.2 w.1.1
  · rw [if_neg e]; exact W
theorem vGo_ws (hc : 0 ≤ c ∧ c ≤ 60) : ∀ (m : Nat) (S : VS), vWs c wr S → vI c wr S → vWs c wr (vGo c vr se m S)
  | 0, _, W, _ => W
  | m + 1, S, W, I => by
    by_cases h : S.Q = []
    · rw [vGo_e h]; exact W
    · rw [vGo_s h]; exact vGo_ws hc m _ (vStep_ws W I h) (vStep_I I hc h).1
variable {kd : Nat → Nat} {an : Nat → Nat} {ai : Nat → Int → Int} {al : Nat → Int → Int} {ar : Nat → Int → Option Nat} {mX5_newest : Nat → Option Nat} {mX5_rows : Nat → Int} {mX5_latest : Nat → Int} {mX5_pins : Nat → Option Nat} {mX5_transactions : Nat → Option Nat} {mX5_count : Nat → Int} {mX5_holders : Nat → Option Nat} {mX5_tripleConflicts : Nat → Option Nat} {mX5_graphConflicts : Nat → Option Nat} {mX5_turns : Nat → Int} {mX5_queue : Nat → Option Nat} {mX5_head : Nat → Int} {mX5_tail : Nat → Int} {mX5_ring : Nat → Option Nat} {mX58_number : Nat → Int} {mX58_sees : Nat → Int} {mX58_state : Nat → Option Nat} {mX59_writes : Nat → Option Nat} {mX59_count : Nat → Int} {mX59_noted : Nat → Option Nat} {mX59_waitsFor : Nat → Option Nat} {mX59_turn : Nat → Int} {mX59_triple : Nat → Int} {mX59_there : Nat → Int} {mX60_version : Nat → Int} {mX60_there : Nat → Int} {mX60_older : Nat → Option Nat} {mX66_version : Nat → Int} {mX66_count : Nat → Int} {mX66_next : Nat → Option Nat} {sa : Nat → Nat} {A : Nat → Int → Nat} {gi : Nat → Nat × Int}
theorem CVT_settle {post : (Nat → Nat) → (Nat → Nat) → (Nat → Int → Int) → (Nat → Int → Option Nat) → (Nat → Int) → (Nat → Int) → (Nat → Int) → (Nat → Option Nat) → (Nat → Option Nat) → (Nat → Int) → (Nat → Option Nat) → (Nat → Int) → Prop} (hMC : 60 ≤ MC) (hMS : 3600 ≤ MS) (hsa : tvSa sa) (O : tvOK kd an ai al ar mX5_newest mX5_rows mX5_latest mX5_pins mX5_transactions mX5_count mX5_holders mX5_tripleConflicts mX5_graphConflicts mX5_turns mX5_queue mX5_head mX5_tail mX5_ring mX58_number mX58_sees mX58_state mX59_writes mX59_count mX59_noted mX59_waitsFor mX59_turn mX59_triple mX59_there mX60_version mX60_there mX60_older mX66_version mX66_count mX66_next sa A gi S vr la c wr se pn ps nt rf) (I : vI c wr S) (W : vWs c wr S) (hla : tvVr vr la ∧ la < 64) (hc : 0 ≤ c ∧ c ≤ 59) (hM : vM c S ≤ 3540) (hck : S.ck ≤ 900000) (hfl : ∀ j, 0 ≤ j → j < 200 → 0 ≤ S.fl j ∧ S.fl j ≤ 900000) (hp : ∀ A' gi' kd' an' ai' ar' tn hd tl rg sm cn wf' tu, tvA c wr vr ps A A' → tvOK (kd') (an') (ai') al (ar') mX5_newest mX5_rows mX5_latest mX5_pins mX5_transactions mX5_count mX5_holders mX5_tripleConflicts mX5_graphConflicts tn mX5_queue hd tl rg mX58_number mX58_sees sm mX59_writes cn mX59_noted (wf') tu mX59_triple mX59_there mX60_version mX60_there mX60_older mX66_version mX66_count mX66_next sa A' gi' (vG c vr se S) vr la c wr se pn ps nt rf → post kd' an' ai' ar' tn hd tl rg sm cn wf' tu) : wpVT_X5_settle MC MS post kd an ai ar mX5_newest mX5_transactions mX5_count mX5_holders mX5_tripleConflicts mX5_turns mX5_queue mX5_head mX5_tail mX5_ring mX58_number mX58_sees mX58_state mX59_writes mX59_count mX59_waitsFor mX59_turn mX59_triple mX59_there mX60_version sa (A 0 0) := by
  obtain ⟨V, eV⟩ : ∃ V, V = vG c vr se S := ⟨_, rfl⟩
  rw [← eV] at hp
  have key : ∀ (d : Nat) (A' : Nat → Int → Nat) (gi' : Nat → Nat × Int) (S : VS) (kd' an' : Nat → Nat) (ai' : Nat → Int → Int) (ar' : Nat → Int → Option Nat) (tn hd tl : Nat → Int) (rg sm : Nat → Option Nat) (cn : Nat → Int) (wf' : Nat → Option Nat) (tu : Nat → Int) (kc ks : Nat), tvA c wr vr ps A A' → tvOK (kd') (an') (ai') al (ar') mX5_newest mX5_rows mX5_latest mX5_pins mX5_transactions mX5_count mX5_holders mX5_tripleConflicts mX5_graphConflicts tn mX5_queue hd tl rg mX58_number mX58_sees sm mX59_writes cn mX59_noted (wf') tu mX59_triple mX59_there mX60_version mX60_there mX60_older mX66_version mX66_count mX66_next sa A' gi' S vr la c wr se pn ps nt rf → vI c wr S → vWs c wr S → vM c S ≤ 3540 → S.ck + vM c S ≤ 904000 → (∀ j, 0 ≤ j → j < 200 → 0 ≤ S.fl j ∧ S.fl j + vM c S ≤ 904000) → V = vG c vr se S → ((kc : Int) + vD c S ≤ 59 ∧ ks ≤ 60 * kc) → (vM c S).toNat < d → wVT_X5_settle_0 MC MS (fun (kd_35 : Nat → Nat) (an_36 : Nat → Nat) (ai_37 : Nat → Int → Int) (ar_38 : Nat → Int → Option Nat) (mX5_turns_39 : Nat → Int) (mX5_head_40 : Nat → Int) (mX5_tail_41 : Nat → Int) (mX5_ring_42 : Nat → Option Nat) (mX58_state_43 : Nat → Option Nat) (mX59_count_44 : Nat → Int) (mX59_waitsFor_45 : Nat → Option Nat) (mX59_turn_46 : Nat → Int) (kc_47 : Nat) (ks_48 : Nat) => (kc_47 ≤ MC ∧ ks_48 ≤ MS ∧ post kd_35 an_36 ai_37 ar_38 mX5_turns_39 mX5_head_40 mX5_tail_41 mX5_ring_42 mX58_state_43 mX59_count_44 mX59_waitsFor_45 mX59_turn_46)) (A' 0 0) mX5_newest mX5_transactions mX5_count mX5_holders mX5_tripleConflicts mX5_queue mX58_number mX58_sees mX59_writes mX59_triple mX59_there mX60_version sa d kd' an' ai' ar' tn hd tl rg sm cn wf' tu kc ks := by
    intro d
    induction d with
    | zero => intro _ _ _ _ _ _ _ _ _ _ _ _ _ _ _ _ _ _ _ _ _ _ _ _ _ _ h; omega
    | succ d ih =>
      intro A' gi' S kd' an' ai' ar' tn hd tl rg sm cn wf' tu kc ks hA O I W hM hck hfl eV hk hd'
      have Mb := vM_b (S := S) (c := c) (by omega)
      have Db := vD_b (S := S) (c := c) hc.1
      have c0 := I.1.2.2.2.2.1
      rw [wVT_X5_settle_0]
      obtain ⟨E, d1, d2, d3, d4, d5, d6, d7, d8, d9, d10, d11⟩ := id O
      obtain ⟨G, F, T, R, P, N, n, r4⟩ := id E
      refine ⟨fun z => ⟨by omega, by omega, ?_⟩, fun z => ?_⟩
      · have l : S.Q.length = 0 := by
          have q1 := d5.1
          have q2 := d5.2.1
          have q3 := d5.2.2.1
          omega
        rw [vG_e (List.length_eq_zero_iff.mp l)] at eV
        rw [eV] at hp
        exact hp A' gi' _ _ _ _ _ _ _ _ _ _ _ _ hA O
      have nQ : ¬ S.Q = [] := fun h => by
        have q1 := d5.1
        have q3 := d5.2.2.1
        rw [h] at q3
        apply z
        rw [q3]
        show _ = (hd (A' 0 0) + ((0 : Nat) : Int)) % 3600
        omega
      obtain ⟨y, L, eQ⟩ : ∃ y L, S.Q = y :: L := by
        cases h : S.Q with
        | nil => exact absurd h nQ
        | cons y L => exact ⟨y, L, rfl⟩
      have ehd : S.Q.headD 0 = y := by rw [eQ]; rfl
      have hb := I.1.2.2.2.1 y (by rw [eQ]; exact List.mem_cons_self)
      have pQ : S.pop.Q = L := by show S.Q.tail = L; rw [eQ]; rfl
      rw [eQ] at d5
      have dh := d5.hd
      have dp := d5.pop
      have h1 := d5.1
      obtain ⟨a1, a2, a3, a4⟩ := vStep_I (vr := vr) (se := se) I (by omega) nQ
      have ws := vStep_ws (vr := vr) (se := se) W I nQ
      have gs := vG_s (vr := vr) (se := se) I (by omega) nQ (by omega)
      refine kOn_of F.2.2.2.2.2 ⟨G.k 6 0 rfl, ?_⟩
      rw [G.l 6 0 rfl (by decide)]
      show (0 ≤ hd (A' 0 0) ∧ hd (A' 0 0) < ((3600 : Nat) : Int)) ∧ _
      refine ⟨by omega, fun r5 e5 ar6 e6 => ⟨by decide, by omega, by decide, ?_, ?_⟩⟩
      · rw [Int.tdiv_eq_ediv_of_nonneg (by omega)]
        show zR ((hd (A' 0 0) + 1) / ((3600 : Nat) : Int))
        omega
      rw [Int.tmod_eq_emod_of_nonneg (by omega)]
      intro _ e14 hd15 e15
      subst e14
      rw [e5, dh]
      have n6 : ∀ i, i ≠ 6 → tvU c wr vr ps i 0 → A' i 0 ≠ A' 6 0 := fun i h u => G.ne u (i' := 6) (j' := 0) rfl (Or.inl h)
      have O6 : tvOK (kd') (an') (ai') al ar6 mX5_newest mX5_rows mX5_latest mX5_pins mX5_transactions mX5_count mX5_holders mX5_tripleConflicts mX5_graphConflicts tn mX5_queue hd15 tl rg mX58_number mX58_sees sm mX59_writes cn mX59_noted (wf') tu mX59_triple mX59_there mX60_version mX60_there mX60_older mX66_version mX66_count mX66_next sa A' gi' S.pop vr la c wr se pn ps nt rf := by
        refine ⟨?_, d1, d2, d3, fun k a b => ?_, ?_, d6, d7, d8, d9, d10, d11⟩
        · rw [e6]; exact E.nar (fun i u h => n6 i (by omega) u)
        · rw [e6, va_up_ne _ _ (n6 3 (by decide) rfl)]; exact d4 k a b
        · rw [e6, e15, va_up_self, pQ]; exact dp
      have PI := vPop_I I
      have PD : vD c S.pop = vD c S := rfl
      have e1 := d1.e hsa hb.1 1 (by decide)
      refine kOn_some ⟨tvKw G hb.1 hb.2, fun es => ?_, fun es => ?_⟩
      · have sy : S.st y = 1 := e1.mp es
        have eS : vStep c vr se S = vWrite c vr se y (S.wt y) (S.wl y) S.pop := by unfold vStep; rw [ehd, if_pos sy]
        have w := I.1.2.2.1 y hb.1.1 hb.1.2 sy
        have q2 := d2 y hb.1.1 hb.1.2 sy
        rw [eS] at a1 a2 a3 a4 ws gs
        have DD := vWrite_D (vr := vr) (se := se) PI (by omega) hb.1 hb.2 (by show S.st y < 3; omega) w.1.1 w.1.2
        have Db' := vD_b (S := vWrite c vr se y (S.wt y) (S.wl y) S.pop) (c := c) hc.1
        have Mb' := vM_b (S := vWrite c vr se y (S.wt y) (S.wl y) S.pop) (c := c) (by omega)
        have fb := hfl (S.wt y) w.1.1.1 w.1.1.2
        refine ⟨(vD c S - vD c (vWrite c vr se y (S.wt y) (S.wl y) S.pop)).toNat, 60 * (vD c S - vD c (vWrite c vr se y (S.wt y) (S.wl y) S.pop)).toNat, ⟨by omega, by omega⟩, ?_⟩
        refine CVT_attempt (S := S.pop) hsa O6 PI hla hc hb.1 hb.2 (by show S.st y < 3; omega) w.1.1 w.1.2 q2.2.2.1 q2.2.2.2 (W.1 _ (by omega) (by omega)) (by show S.ck ≤ 1000000; omega) (by show 0 ≤ S.fl _ ∧ S.fl _ ≤ 1000000; omega) ?_ (fun q => ⟨by omega, by omega⟩) (fun A2 gi2 kd2 an2 ai2 ar2 tn2 tl2 rg2 sm2 cn2 wf2 tu2 hA2 O2 _ => ?_)
        · rw [pQ]
          have : (S.Q.length : Int) ≤ vM c S - 60 * vD c S := by unfold vM; omega
          rw [eQ, List.length_cons] at this
          have d52 := d5.2.1
          rw [List.length_cons] at d52
          have dpos : 1 ≤ vD c S := by
            have := vD_dn (c := c) (S := S) (S' := VS.mk (updI S.st y 4) S.ws S.wf S.wt S.wl S.si S.ck S.ho S.Q S.R S.fl) hb.1 (by omega) (by show ¬ updI S.st y 4 y < 3; rw [updI_s]; decide) (fun w hw => updI_n hw)
            have := vD_b (S := VS.mk (updI S.st y 4) S.ws S.wf S.wt S.wl S.si S.ck S.ho S.Q S.R S.fl) (c := c) hc.1
            omega
          omega
        · have := ih A2 gi2 (vWrite c vr se y (S.wt y) (S.wl y) S.pop) kd2 an2 ai2 ar2 tn2 hd15 tl2 rg2 sm2 cn2 wf2 tu2 (kc + (vD c S - vD c (vWrite c vr se y (S.wt y) (S.wl y) S.pop)).toNat) (ks + 60 * (vD c S - vD c (vWrite c vr se y (S.wt y) (S.wl y) S.pop)).toNat) (hA.tt hA2) O2 a1 ws (by omega) (by omega) (fun j a b => by have := a4 j; have := hfl j a b; omega) (by rw [← gs]; exact eV) ⟨by omega, by omega⟩ (by omega)
          rw [hA2 0 0 (by decide) rfl] at this
          exact this
      · have sy : ¬ S.st y = 1 := fun q => es (e1.mpr q)
        have eS : vStep c vr se S = S.pop := by unfold vStep; rw [ehd, if_neg sy]
        rw [eS] at a1 a2 a3 a4 ws gs
        have Mb' := vM_b (S := S.pop) (c := c) (by omega)
        exact ih A' gi' S.pop kd' an' ai' ar6 tn hd15 tl rg sm cn wf' tu kc ks hA O6 a1 ws (by omega) (by omega) (fun j a b => by have := a4 j; have := hfl j a b; omega) (by rw [← gs]; exact eV) ⟨by omega, by omega⟩ (by omega)
  have Db := vD_b (S := S) (c := c) hc.1
  unfold wpVT_X5_settle
  exact ⟨_, key _ A gi S kd an ai ar mX5_turns mX5_head mX5_tail mX5_ring mX58_state mX59_count mX59_waitsFor mX59_turn 0 0 tvA.r O I W hM (by omega) (fun j a b => by have := hfl j a b; omega) eV ⟨by omega, by omega⟩ (Nat.lt_succ_self _)⟩
end

/-! VersionTrans (room VT): put, abort -/
section
variable {c la k v t l x e : Int} {wr se pn rf st wf : Int → Int} {vr nt : Int → Int → Int} {ps : List Int} {S T : VS} {MC MS : Nat}
/-- a reader ends: nothing else moves -/
theorem vEnd_r (J : vJ c wr S) (hr : wr t = 0) (hx : x ≠ 1) (ht : 0 ≤ t) : vEnd c t x S = VS.mk (updI S.st t x) S.ws S.wf S.wt S.wl S.si S.ck S.ho S.Q S.R S.fl := by
  obtain ⟨j1, j2, j3, j4, j6, j7⟩ := J
  have eL : vtL (updI S.st t x) S.wf S.si c t = [] := vtL_eq ⟨fun w => ⟨fun h => absurd h (List.not_mem_nil), fun h => by
    obtain ⟨hw, s, ew⟩ := h
    by_cases q : w = t
    · rw [q, updI_s] at s; exact absurd s hx
    · rw [updI_n q] at s
      have := (j3 w hw.1 hw.2 s).2.2
      rw [ew] at this; exact absurd hr this⟩, List.Pairwise.nil⟩
  have eH : vtHo S.ho t = S.ho := by
    funext k
    unfold vtHo
    by_cases h : 0 ≤ k ∧ k < 200 ∧ S.ho k = t
    · rcases j2 k h.1 h.2.1 with q | q
      · rw [h.2.2] at q; omega
      · rw [h.2.2] at q; exact absurd hr q.2.2
    · exact if_neg h
  unfold vEnd
  rw [eL, eH, List.append_nil]
variable {kd : Nat → Nat} {an : Nat → Nat} {ai : Nat → Int → Int} {al : Nat → Int → Int} {ar : Nat → Int → Option Nat} {mX5_newest : Nat → Option Nat} {mX5_rows : Nat → Int} {mX5_latest : Nat → Int} {mX5_pins : Nat → Option Nat} {mX5_transactions : Nat → Option Nat} {mX5_count : Nat → Int} {mX5_holders : Nat → Option Nat} {mX5_tripleConflicts : Nat → Option Nat} {mX5_graphConflicts : Nat → Option Nat} {mX5_turns : Nat → Int} {mX5_queue : Nat → Option Nat} {mX5_head : Nat → Int} {mX5_tail : Nat → Int} {mX5_ring : Nat → Option Nat} {mX58_number : Nat → Int} {mX58_sees : Nat → Int} {mX58_state : Nat → Option Nat} {mX59_writes : Nat → Option Nat} {mX59_count : Nat → Int} {mX59_noted : Nat → Option Nat} {mX59_waitsFor : Nat → Option Nat} {mX59_turn : Nat → Int} {mX59_triple : Nat → Int} {mX59_there : Nat → Int} {mX60_version : Nat → Int} {mX60_there : Nat → Int} {mX60_older : Nat → Option Nat} {mX66_version : Nat → Int} {mX66_count : Nat → Int} {mX66_next : Nat → Option Nat} {sa : Nat → Nat} {A : Nat → Int → Nat} {gi : Nat → Nat × Int}
theorem CVT_put {post : Int → (Nat → Nat) → (Nat → Nat) → (Nat → Int → Int) → (Nat → Int → Option Nat) → (Nat → Int) → (Nat → Int) → (Nat → Int) → (Nat → Option Nat) → (Nat → Option Nat) → (Nat → Int) → (Nat → Option Nat) → (Nat → Int) → (Nat → Int) → (Nat → Int) → Prop} {px : Nat → (Nat → Nat) → (Nat → Nat) → (Nat → Int → Int) → (Nat → Int → Option Nat) → (Nat → Int) → (Nat → Int) → (Nat → Int) → (Nat → Option Nat) → (Nat → Option Nat) → (Nat → Int) → (Nat → Option Nat) → (Nat → Int) → (Nat → Int) → (Nat → Int) → Prop} (hC : 300 ≤ MC) (hS : 5000 ≤ MS) (hsa : tvSa sa) (O : tvOK kd an ai al ar mX5_newest mX5_rows mX5_latest mX5_pins mX5_transactions mX5_count mX5_holders mX5_tripleConflicts mX5_graphConflicts mX5_turns mX5_queue mX5_head mX5_tail mX5_ring mX58_number mX58_sees mX58_state mX59_writes mX59_count mX59_noted mX59_waitsFor mX59_turn mX59_triple mX59_there mX60_version mX60_there mX60_older mX66_version mX66_count mX66_next sa A gi S vr la c wr se pn ps nt rf) (I : tvH S vr la c wr se pn ps) (he : e = 0 ∨ e = 1) (h1 : ¬ ((0 ≤ t ∧ t < c) ∧ 0 ≤ k ∧ k < 200) → px 1 kd an ai ar mX5_turns mX5_head mX5_tail mX5_ring mX58_state mX59_count mX59_waitsFor mX59_turn mX59_triple mX59_there) (h2 : (0 ≤ t ∧ t < c) ∧ 0 ≤ k ∧ k < 200 → ¬ (S.st t = 0 ∧ ¬ wr t = 0) → px 2 kd an ai ar mX5_turns mX5_head mX5_tail mX5_ring mX58_state mX59_count mX59_waitsFor mX59_turn mX59_triple mX59_there) (h0 : (0 ≤ t ∧ t < c) ∧ 0 ≤ k ∧ k < 200 → S.st t = 0 ∧ ¬ wr t = 0 → ∀ V, V = vG c vr se (vWrite c vr se t k e S) → ∀ A' gi' kd' an' ai' ar' tn hd tl rg sm cn wf' tu tp te, A' 0 0 = A 0 0 → tvOK (kd') (an') (ai') al (ar') mX5_newest mX5_rows mX5_latest mX5_pins mX5_transactions mX5_count mX5_holders mX5_tripleConflicts mX5_graphConflicts tn mX5_queue hd tl rg mX58_number mX58_sees sm mX59_writes cn mX59_noted (wf') tu tp te mX60_version mX60_there mX60_older mX66_version mX66_count mX66_next sa A' gi' V vr la c wr se pn ps nt rf → post (vPu (V.st t)) kd' an' ai' ar' tn hd tl rg sm cn wf' tu tp te) : wpVT_X5_put MC MS post px kd an ai ar mX5_newest mX5_transactions mX5_count mX5_holders mX5_tripleConflicts mX5_turns mX5_queue mX5_head mX5_tail mX5_ring mX58_number mX58_sees mX58_state mX59_writes mX59_count mX59_waitsFor mX59_turn mX59_triple mX59_there mX60_version sa (A 0 0) t k e := by
  obtain ⟨⟨G, F, T, R, P, N, ⟨n1, n2, n3⟩, r4⟩, D⟩ := id O
  obtain ⟨i1, i2, i3, i4, i5, i6, i7, i8, i9, i10, i11⟩ := I
  have Mb := vM_b (S := S) (c := c) (by omega)
  have Db := vD_b (S := S) (c := c) i2.1
  have l0 : (S.Q.length : Int) = 0 := by rw [i7]; rfl
  have l0' : S.Q.length = 0 := by rw [i7]; rfl
  have M0 : vM c S ≤ 3540 := by unfold vM; omega
  unfold wpVT_X5_put
  refine ⟨1, 6, ⟨by omega, by omega⟩, CVT_at (by decide) (by decide) G F.2.1 T n3 (by omega) (fun w => h1 (fun q => w q.1)) (fun ht => ⟨1, 6, ⟨by omega, by omega⟩, CVT_needTriple (by decide) (by decide) (fun w => h1 (fun q => w q.2)) (fun tp => kOn_some ⟨tvKk G ht, 1, 6, ⟨by omega, by omega⟩, CVT_writer (by decide) (by decide) G ht (fun hw => h2 ⟨ht, tp⟩ (fun q => q.2 hw)) (fun hw => ⟨1, 6, ⟨by omega, by omega⟩, CVT_needOpen (by decide) (by decide) G hsa D.1 ht (fun ho => h2 ⟨ht, tp⟩ (fun q => ho q.1)) (fun ho => kOn_some ⟨tvKw G ht hw, fun tp' etp => ⟨he, fun te' ete => ?_⟩⟩)⟩)⟩)⟩)⟩
  have h0 := h0 ⟨ht, tp⟩ ⟨ho, hw⟩ _ rfl
  have n7 : ∀ w, 0 ≤ w → w < c → w ≠ t → A 7 w ≠ A 7 t := fun w a b h => G.ne (i := 7) (i' := 7) ⟨a, b⟩ ht (Or.inr h)
  have O1 : tvOK kd an ai al ar mX5_newest mX5_rows mX5_latest mX5_pins mX5_transactions mX5_count mX5_holders mX5_tripleConflicts mX5_graphConflicts mX5_turns mX5_queue mX5_head mX5_tail mX5_ring mX58_number mX58_sees mX58_state mX59_writes mX59_count mX59_noted mX59_waitsFor mX59_turn (tp') (te') mX60_version mX60_there mX60_older mX66_version mX66_count mX66_next sa A gi S vr la c wr se pn ps nt rf := by
    obtain ⟨d1, d2, d3⟩ := D
    refine ⟨⟨G, F, T, R, P, N, ⟨n1, n2, n3⟩, r4⟩, d1, fun w a b s => ?_, d3⟩
    have q : w ≠ t := fun q => by rw [q] at s; omega
    rw [etp, ete, va_up_ne _ _ (n7 w a b q), va_up_ne _ _ (n7 w a b q)]
    exact d2 w a b s
  have fk := i9 k tp.1 tp.2
  obtain ⟨a1, a2, a3, a4⟩ := vWrite_I (vr := vr) (se := se) (k := k) (e := e) i6 (by omega) ht hw (by omega) tp he
  refine ⟨1, 60, ⟨by omega, by omega⟩, CVT_attempt (mX59_triple := tp') (mX59_there := te') hsa O1 i6 ⟨i3, by omega⟩ (by omega) ht hw (by omega) tp he (by rw [etp, va_up_self]) (by rw [ete, va_up_self]) (i10 _ (by omega) (by omega)) (by omega) (by omega) (by omega) (fun _ => ⟨by decide, by decide⟩) (fun A2 gi2 kd2 an2 ai2 ar2 tn2 tl2 rg2 sm2 cn2 wf2 tu2 hA2 O2 _ => ?_)⟩
  rw [← hA2 0 0 (by decide) rfl]
  refine ⟨60, 3600, ⟨by omega, by omega⟩, CVT_settle (S := vWrite c vr se t k e S) (by decide) (by decide) hsa O2 a1 (vWrite_ws ⟨i10, i11⟩ ht hw tp) ⟨i3, by omega⟩ i2 (by omega) (by omega) (fun j a b => by have := i9 j a b; have := a4 j; omega) (fun A3 gi3 kd3 an3 ai3 ar3 tn3 hd3 tl3 rg3 sm3 cn3 wf3 tu3 hA3 O3 _ => ?_)⟩
  have h0 := h0 A3 gi3 kd3 an3 ai3 ar3 tn3 hd3 tl3 rg3 sm3 cn3 wf3 tu3 tp' te' (by rw [hA3 0 0 (by decide) rfl, hA2 0 0 (by decide) rfl]) O3
  have e7 : A 7 t = A3 7 t := by rw [hA3 7 t (by decide) ht, hA2 7 t (by decide) ht]
  rw [e7]
  have e0 := O3.2.1.e hsa ht 0 (by decide)
  have e1 := O3.2.1.e hsa ht 1 (by decide)
  have e2 := O3.2.1.e hsa ht 2 (by decide)
  refine ⟨fun z => ?_, fun z => ⟨fun z1 => ?_, fun z1 => ⟨fun z2 => ?_, fun z2 => ?_⟩⟩⟩
  · have q := e0.mp z
    rw [show vPu ((vG c vr se (vWrite c vr se t k e S)).st t) = 1 by rw [q]; rfl] at h0
    exact ⟨by omega, by omega, h0⟩
  · have q := e1.mp z1
    rw [show vPu ((vG c vr se (vWrite c vr se t k e S)).st t) = 0 by rw [q]; rfl] at h0
    exact ⟨by omega, by omega, h0⟩
  · have q := e2.mp z2
    rw [show vPu ((vG c vr se (vWrite c vr se t k e S)).st t) = -1 by rw [q]; rfl] at h0
    exact ⟨by omega, by omega, h0⟩
  · have q0 : ¬ (vG c vr se (vWrite c vr se t k e S)).st t = 0 := fun q => z (e0.mpr q)
    have q1 : ¬ (vG c vr se (vWrite c vr se t k e S)).st t = 1 := fun q => z1 (e1.mpr q)
    have q2 : ¬ (vG c vr se (vWrite c vr se t k e S)).st t = 2 := fun q => z2 (e2.mpr q)
    rw [show vPu ((vG c vr se (vWrite c vr se t k e S)).st t) = -2 by unfold vPu; rw [if_neg q0, if_neg q1, if_neg q2]] at h0
    exact ⟨by omega, by omega, h0⟩
/-- a reader's end, in the room -/
theorem tvOK.rd {sm : Nat → Option Nat} (O : tvOK kd an ai al ar mX5_newest mX5_rows mX5_latest mX5_pins mX5_transactions mX5_count mX5_holders mX5_tripleConflicts mX5_graphConflicts mX5_turns mX5_queue mX5_head mX5_tail mX5_ring mX58_number mX58_sees mX58_state mX59_writes mX59_count mX59_noted mX59_waitsFor mX59_turn mX59_triple mX59_there mX60_version mX60_there mX60_older mX66_version mX66_count mX66_next sa A gi S vr la c wr se pn ps nt rf) (J : vJ c wr S) (ht : 0 ≤ t ∧ t < c) (hr : wr t = 0) (hx : 3 ≤ x ∧ x ≤ 4) (es : sm = va_up mX58_state (A 7 t) (some (sa (5 + x.toNat)))) : tvOK kd an ai al ar mX5_newest mX5_rows mX5_latest mX5_pins mX5_transactions mX5_count mX5_holders mX5_tripleConflicts mX5_graphConflicts mX5_turns mX5_queue mX5_head mX5_tail mX5_ring mX58_number mX58_sees sm mX59_writes mX59_count mX59_noted mX59_waitsFor mX59_turn mX59_triple mX59_there mX60_version mX60_there mX60_older mX66_version mX66_count mX66_next sa A gi (vEnd c t x S) vr la c wr se pn ps nt rf := by
  obtain ⟨E, d1, d2, d3, d4⟩ := O
  have G := E.1
  rw [vEnd_r J hr (by omega) ht.1]
  have n7 : ∀ w, 0 ≤ w → w < c → w ≠ t → A 7 w ≠ A 7 t := fun w a b h => G.ne (i := 7) (i' := 7) ⟨a, b⟩ ht (Or.inr h)
  refine ⟨E, fun w a b => ?_, fun w a b s => ?_, fun w a b q s => ?_, d4⟩
  · show sm (A 7 w) = some (sa (5 + (updI S.st t x w).toNat)) ∧ 0 ≤ updI S.st t x w ∧ updI S.st t x w ≤ 4
    rw [es]
    by_cases q : w = t
    · subst q; rw [va_up_self, updI_s]; exact ⟨rfl, by omega, by omega⟩
    · rw [va_up_ne _ _ (n7 w a b q), updI_n q]; exact d1 w a b
  · have s : updI S.st t x w = 1 := s
    have q : w ≠ t := fun q => by rw [q, updI_s] at s; omega
    rw [updI_n q] at s; exact d2 w a b s
  · have s : updI S.st t x w < 3 := s
    have q2 : w ≠ t := fun q => by rw [q, updI_s] at s; omega
    rw [updI_n q2] at s; exact d3 w a b q s
theorem CVT_abort {post : Int → (Nat → Nat) → (Nat → Nat) → (Nat → Int → Int) → (Nat → Int → Option Nat) → (Nat → Int) → (Nat → Int) → (Nat → Int) → (Nat → Option Nat) → (Nat → Option Nat) → (Nat → Int) → (Nat → Option Nat) → (Nat → Int) → Prop} {px : Nat → (Nat → Nat) → (Nat → Nat) → (Nat → Int → Int) → (Nat → Int → Option Nat) → (Nat → Int) → (Nat → Int) → (Nat → Int) → (Nat → Option Nat) → (Nat → Option Nat) → (Nat → Int) → (Nat → Option Nat) → (Nat → Int) → Prop} (hC : 300 ≤ MC) (hS : 5000 ≤ MS) (hsa : tvSa sa) (O : tvOK kd an ai al ar mX5_newest mX5_rows mX5_latest mX5_pins mX5_transactions mX5_count mX5_holders mX5_tripleConflicts mX5_graphConflicts mX5_turns mX5_queue mX5_head mX5_tail mX5_ring mX58_number mX58_sees mX58_state mX59_writes mX59_count mX59_noted mX59_waitsFor mX59_turn mX59_triple mX59_there mX60_version mX60_there mX60_older mX66_version mX66_count mX66_next sa A gi S vr la c wr se pn ps nt rf) (I : tvH S vr la c wr se pn ps) (h1 : ¬ (0 ≤ t ∧ t < c) → px 1 kd an ai ar mX5_turns mX5_head mX5_tail mX5_ring mX58_state mX59_count mX59_waitsFor mX59_turn) (h2 : 0 ≤ t ∧ t < c → ¬ S.st t < 3 → px 2 kd an ai ar mX5_turns mX5_head mX5_tail mX5_ring mX58_state mX59_count mX59_waitsFor mX59_turn) (h0 : 0 ≤ t ∧ t < c → S.st t < 3 → ∀ V, V = vG c vr se (vEnd c t 4 S) → ∀ A' gi' kd' an' ai' ar' tn hd tl rg sm cn wf' tu, A' 0 0 = A 0 0 → tvOK (kd') (an') (ai') al (ar') mX5_newest mX5_rows mX5_latest mX5_pins mX5_transactions mX5_count mX5_holders mX5_tripleConflicts mX5_graphConflicts tn mX5_queue hd tl rg mX58_number mX58_sees sm mX59_writes cn mX59_noted (wf') tu mX59_triple mX59_there mX60_version mX60_there mX60_older mX66_version mX66_count mX66_next sa A' gi' V vr la c wr se pn ps nt rf → post (vtWs 200 S.ws t) kd' an' ai' ar' tn hd tl rg sm cn wf' tu) : wpVT_X5_abort MC MS post px kd an ai ar mX5_newest mX5_transactions mX5_count mX5_holders mX5_tripleConflicts mX5_turns mX5_queue mX5_head mX5_tail mX5_ring mX58_number mX58_sees mX58_state mX59_writes mX59_count mX59_waitsFor mX59_turn mX59_triple mX59_there mX60_version sa (A 0 0) t := by
  obtain ⟨⟨G, F, T, R, P, N, ⟨n1, n2, n3⟩, r4⟩, D⟩ := id O
  obtain ⟨i1, i2, i3, i4, i5, i6, i7, i8, i9, i10, i11⟩ := I
  have Mb := vM_b (S := S) (c := c) (by omega)
  have Db := vD_b (S := S) (c := c) i2.1
  have l0 : (S.Q.length : Int) = 0 := by rw [i7]; rfl
  have l0' : S.Q.length = 0 := by rw [i7]; rfl
  have M0 : vM c S ≤ 3540 := by unfold vM; omega
  unfold wpVT_X5_abort
  refine ⟨1, 6, ⟨by omega, by omega⟩, CVT_at (by decide) (by decide) G F.2.1 T n3 (by omega) h1 (fun ht => kOn_some ⟨tvKk G ht, ⟨by omega, by omega⟩, CVT_live G hsa D.1 ht (fun lv => ⟨1, 6, ⟨by omega, by omega⟩, CVT_may (by decide) (by decide) (fun q => absurd q (by decide)) (fun _ z z1 z0 => ?_)⟩) (fun lv => ⟨1, 6, ⟨by omega, by omega⟩, CVT_may (by decide) (by decide) (fun _ => h2 ht lv) (fun q => absurd rfl q)⟩)⟩)⟩
  have h0 := h0 ht lv _ rfl
  obtain ⟨E1, E2⟩ := vEnd_I (x := 4) i6 (by omega) ht (by decide) lv
  have W : vWs c wr (vEnd c t 4 S) := ⟨i10, i11⟩
  by_cases hw : wr t = 0
  · have k3 := tvKr G ht hw
    have ez : z = 0 := z0 (by rw [k3]; decide)
    refine ⟨fun _ => ?_, fun q => absurd ez q⟩
    unfold wVT_X5_abort_35
    refine kOn_some ⟨Or.inr k3, fun sm es z' z1' z0' => ⟨fun _ => ?_, fun q => absurd (z0' (by rw [k3]; decide)) q⟩⟩
    have O2 := O.rd i6.1 ht hw (x := 4) (by decide) es
    refine ⟨60, 3600, ⟨by omega, by omega⟩, CVT_settle (S := vEnd c t 4 S) (mX58_state := sm) (by decide) (by decide) hsa O2 E1 W ⟨i3, by omega⟩ i2 (by omega) (by show S.ck ≤ 900000; omega) (fun j a b => by have := i9 j a b; show 0 ≤ S.fl j ∧ S.fl j ≤ 900000; omega) (fun A3 gi3 kd3 an3 ai3 ar3 tn3 hd3 tl3 rg3 sm3 cn3 wf3 tu3 hA3 O3 _ => ⟨by omega, by omega, ?_⟩)⟩
    have h0 := h0 A3 gi3 kd3 an3 ai3 ar3 tn3 hd3 tl3 rg3 sm3 cn3 wf3 tu3 (hA3 0 0 (by decide) rfl) O3
    have hz : vtWs 200 S.ws t = 0 := by
      have : ∀ m : Nat, m ≤ 200 → vtWs m S.ws t = 0 := by
        intro m
        induction m with
        | zero => intro _; rfl
        | succ m ih =>
          intro hm
          have z := i11 t m ht.1 (Or.inr hw) (by omega) (by omega)
          show cntI _ m + pif _ 1 0 = 0
          rw [pif_f (show ¬ 0 < S.ws (200 * t + (m : Int)) by rw [z]; decide)]
          have := ih (by omega)
          unfold vtWs at this
          omega
      exact this 200 (Nat.le_refl _)
    rw [hz] at h0
    exact h0
  · have k2 := tvKw G ht hw
    have ez : z = 1 := z1 k2
    refine ⟨fun q => by omega, fun _ => ⟨k2, ?_⟩⟩
    rw [(D.2.2.1 t ht.1 ht.2 hw lv).2]
    unfold wVT_X5_abort_35
    refine kOn_some ⟨Or.inl k2, fun sm es z' z1' z0' => ⟨fun q => by have := z1' k2; omega, fun _ => ⟨k2, ⟨by omega, by omega⟩, ?_⟩⟩⟩
    refine CVT_end (mX58_state := sm) (sm0 := mX58_state) (x := 4) hsa es O i6.1 i2 ht hw (by decide) (by omega) (fun ai2 ar2 tl2 cn2 wf2 O2 => ?_)
    refine ⟨60, 3600, ⟨by omega, by omega⟩, CVT_settle (S := vEnd c t 4 S) (mX58_state := sm) (by decide) (by decide) hsa O2 E1 W ⟨i3, by omega⟩ i2 (by omega) (by show S.ck ≤ 900000; omega) (fun j a b => by have := i9 j a b; show 0 ≤ S.fl j ∧ S.fl j ≤ 900000; omega) (fun A3 gi3 kd3 an3 ai3 ar3 tn3 hd3 tl3 rg3 sm3 cn3 wf3 tu3 hA3 O3 _ => ⟨by omega, by omega, ?_⟩)⟩
    exact h0 A3 gi3 kd3 an3 ai3 ar3 tn3 hd3 tl3 rg3 sm3 cn3 wf3 tu3 (hA3 0 0 (by decide) rfl) O3
end

/-! VersionTrans (room VT): commit, its parts -/
section
variable {c la k v t l x e : Int} {wr se pn rf st wf ws : Int → Int} {vr V V' nt : Int → Int → Int} {ps : List Int} {S T : VS} {MC MS : Nat}
theorem vCm_V {N : Int} (hV : tvVr vr la) (h0 : 0 ≤ la) (hN : N ≤ 200) (hw : ∀ k, 0 ≤ k → k < 200 → 0 ≤ ws (200 * t + k) ∧ ws (200 * t + k) ≤ 2) : tvVr (vCm vr ws se t la N) (la + 1) := fun k v h => by
  unfold vCm at h ⊢
  by_cases q : (0 ≤ k ∧ k < N) ∧ v = la + 1 ∧ vMt vr ws se t k
  · rw [pif_t q] at h ⊢
    have := hw k q.1.1 (by omega)
    exact ⟨by omega, by omega, by omega⟩
  · rw [pif_f q] at h ⊢
    have := hV k v h
    exact ⟨this.1, by omega, this.2.2⟩
variable {kd : Nat → Nat} {an : Nat → Nat} {ai : Nat → Int → Int} {al : Nat → Int → Int} {ar : Nat → Int → Option Nat} {mX5_newest : Nat → Option Nat} {mX5_rows : Nat → Int} {mX5_latest : Nat → Int} {mX5_pins : Nat → Option Nat} {mX5_transactions : Nat → Option Nat} {mX5_count : Nat → Int} {mX5_holders : Nat → Option Nat} {mX5_tripleConflicts : Nat → Option Nat} {mX5_graphConflicts : Nat → Option Nat} {mX5_turns : Nat → Int} {mX5_queue : Nat → Option Nat} {mX5_head : Nat → Int} {mX5_tail : Nat → Int} {mX5_ring : Nat → Option Nat} {mX58_number : Nat → Int} {mX58_sees : Nat → Int} {mX58_state : Nat → Option Nat} {mX59_writes : Nat → Option Nat} {mX59_count : Nat → Int} {mX59_noted : Nat → Option Nat} {mX59_waitsFor : Nat → Option Nat} {mX59_turn : Nat → Int} {mX59_triple : Nat → Int} {mX59_there : Nat → Int} {mX60_version : Nat → Int} {mX60_there : Nat → Int} {mX60_older : Nat → Option Nat} {mX66_version : Nat → Int} {mX66_count : Nat → Int} {mX66_next : Nat → Option Nat} {sa : Nat → Nat} {A A' : Nat → Int → Nat} {gi : Nat → Nat × Int}
theorem CVT_look2 {K38 : Int → Prop} {K62 : Prop} {kc ks : Nat} (hm : kc ≤ MC ∧ ks ≤ MS) (G : LabU (tvK wr) tvL (tvU c wr vr ps) kd an A gi) (F : mX5_newest (A 0 0) = some (A 1 0)) (hR : tvRw ar mX60_version mX60_there mX60_older A vr) (hV : tvVr vr la) (hla : la < 64) (ht : 0 ≤ t ∧ t < c) (hw : ¬ wr t = 0) (W : mX59_noted (A 7 t) = some (A 9 t)) (es : mX58_sees (A 7 t) = se t) (N : tvGn ai A c wr nt) (h0 : (∀ g, 0 ≤ g → g < 4 → ¬ nt t g = 0 → ¬ vtCg vr (se t) g) → K62) (h1 : ∀ g, 0 ≤ g → g < 4 → ¬ nt t g = 0 → vtCg vr (se t) g → (∀ h, 0 ≤ h → h < g → ¬ nt t h = 0 → ¬ vtCg vr (se t) h) → K38 g) : ∃ fu, wVT_X59_look_2 MC MS K38 K62 (A 7 t) (some (A 0 0)) kd an ai ar mX5_newest mX58_sees mX59_noted mX60_version kc ks fu 0 := by
  refine zl1 (fun m i => wVT_X59_look_2 MC MS K38 K62 (A 7 t) (some (A 0 0)) kd an ai ar mX5_newest mX58_sees mX59_noted mX60_version kc ks m i) (fun i => 0 ≤ i ∧ ∀ k, 0 ≤ k → k < i → ¬ nt t (k / 50) = 0 → ¬ vtAb vr k (se t)) 200 ?_ ⟨by decide, fun k a b => by omega⟩ (by decide)
  rintro m i ⟨i0, hi⟩ hN ih
  rw [wVT_X59_look_2]
  have U9 : tvU c wr vr ps 9 t := ⟨ht, hw⟩
  refine ⟨fun z => h0 (fun g a b q ⟨k, hk, hk2⟩ => hi k (by omega) (by omega) (by rw [show k / 50 = g by omega]; exact q) hk2), fun z => ⟨i0, fun g eg => kOn_of W ⟨G.k 9 t U9, ?_⟩⟩⟩
  rw [G.l 9 t U9 (by decide)]
  have gb : 0 ≤ g ∧ g < 4 := by omega
  rw [(N t ht.1 ht.2 hw g gb.1 gb.2).1]
  have step : (¬ nt t g = 0 → ¬ vtAb vr i (se t)) → (zR (i + 1) ∧ ∀ x : Int, x = i + 1 → wVT_X59_look_2 MC MS K38 K62 (A 7 t) (some (A 0 0)) kd an ai ar mX5_newest mX58_sees mX59_noted mX60_version kc ks m x) := fun q => ⟨by omega, fun _ e => by
    rw [e]
    refine ih (by omega) ⟨by omega, fun k a b => ?_⟩
    by_cases h : k = i
    · subst h; rw [← eg]; exact q
    · exact hi k a (by omega)⟩
  refine ⟨gb, fun zz => step (fun q => absurd zz q), fun zz => kOn_some ⟨G.k 0 0 rfl, hm, ?_⟩⟩
  rw [es]
  refine CVT_isChangedB G F hR hV hla ⟨i0, by omega⟩ (fun y => h1 g gb.1 gb.2 zz ⟨i, by omega, y⟩ (fun h a b q ⟨k, hk, hk2⟩ => hi k (by omega) (by omega) (by rw [show k / 50 = h by omega]; exact q) hk2)) (fun y => step (fun _ => y))
/-- one more row on top -/
theorem tvRw.add {q : Nat} {e : Int} (G : LabU (tvK wr) tvL (tvU c wr V ps) kd an A gi) (hq : kd q = 0) (hR : tvRw ar mX60_version mX60_there mX60_older A V) (hV : tvVr V (la + 1)) (hla : 0 ≤ la ∧ la < 62) (hk : 0 ≤ k ∧ k < 200) (hz : ∀ w, la < w → V k w = 0) (hA : ∀ i j, tvU c wr V ps i j → A' i j = A i j) (eA : A' 11 (64 * k + (la + 1)) = q) (he : e = 0 ∨ e = 1) (hv : V' k (la + 1) = if e = 0 then 1 else 2) (ho : ∀ k' w, ¬ (k' = k ∧ w = la + 1) → V' k' w = V k' w) : tvRw (va_up ar (A 1 0) (updI (ar (A 1 0)) k (some q))) (va_up mX60_version q (la + 1)) (va_up mX60_there q e) (va_up mX60_older q (ar (A 1 0) k)) A' V' := by
  have nv : ¬ V' k (la + 1) = 0 := by rw [hv]; split <;> decide
  have e1 : A' 1 0 = A 1 0 := hA 1 0 rfl
  have tr : ∀ {k' B : Int} {o : Option Nat}, tvNx A V k' B o → (k' = k → B ≤ la + 1) → tvNx A' V' k' B o := fun {k' B o} h hB => by
    rcases h with ⟨e, z⟩ | ⟨u, a, b, d, s⟩
    · exact Or.inl ⟨e, fun w hw => by rw [ho k' w (fun q => by have := hB q.1; omega)]; exact z w hw⟩
    · exact Or.inr ⟨u, a, by rw [ho k' u (fun q => by have := hB q.1; omega)]; exact b, fun w p q => by rw [ho k' w (fun q2 => by have := hB q2.1; omega)]; exact d w p q, by rw [hA 11 _ (tvU_row hV (by omega) b)]; exact s⟩
  refine ⟨fun k' a b => ?_, fun k' w nw => ?_⟩
  · rw [e1, va_up_self]
    by_cases h : k' = k
    · subst h
      rw [updI_s]
      refine Or.inr ⟨la + 1, by omega, nv, fun w p q => ?_, by rw [eA]⟩
      rw [ho k' w (fun q => by omega)]; exact hz w (by omega)
    · rw [updI_n h]; exact tr (hR.1 k' a b) (fun q => absurd q h)
  · by_cases h : k' = k ∧ w = la + 1
    · obtain ⟨rfl, rfl⟩ := h
      rw [eA, va_up_self, va_up_self, va_up_self]
      refine ⟨rfl, ?_, ?_⟩
      · rw [hv]; rcases he with rfl | rfl <;> decide
      · have q := hR.1 k' hk.1 hk.2
        have q2 : tvNx A V k' (la + 1) (ar (A 1 0) k') := by
          rcases q with ⟨e, z⟩ | ⟨u, a, b, d, s⟩
          · exact Or.inl ⟨e, fun w hw => z w (by omega)⟩
          · have ul : u < la + 1 := by
              by_cases p : u < la + 1
              · exact p
              · exact absurd (hz u (by omega)) b
            exact Or.inr ⟨u, ul, b, fun w p q => d w p (by omega), s⟩
        exact tr q2 (fun _ => Int.le_refl _)
    · rw [ho k' w h] at nw ⊢
      have u := tvU_row (c := c) (wr := wr) (ps := ps) hV (by omega) nw
      have ne : A 11 (64 * k' + w) ≠ q := G.fresh hq u
      obtain ⟨r1, r2, r3⟩ := hR.2 k' w nw
      rw [hA 11 _ u, va_up_ne _ _ ne, va_up_ne _ _ ne, va_up_ne _ _ ne]
      refine ⟨r1, r2, tr r3 (fun q => ?_)⟩
      have := (hV k' w nw).2.1
      omega
end

/-! VersionTrans (room VT): commit, the loop over triples -/
section
variable {c la k v t l x e : Int} {wr se pn rf st wf ws : Int → Int} {vr V V' nt : Int → Int → Int} {ps : List Int} {S T : VS} {MC MS : Nat}
variable {kd : Nat → Nat} {an : Nat → Nat} {ai : Nat → Int → Int} {al : Nat → Int → Int} {ar : Nat → Int → Option Nat} {mX5_newest : Nat → Option Nat} {mX5_rows : Nat → Int} {mX5_latest : Nat → Int} {mX5_pins : Nat → Option Nat} {mX5_transactions : Nat → Option Nat} {mX5_count : Nat → Int} {mX5_holders : Nat → Option Nat} {mX5_tripleConflicts : Nat → Option Nat} {mX5_graphConflicts : Nat → Option Nat} {mX5_turns : Nat → Int} {mX5_queue : Nat → Option Nat} {mX5_head : Nat → Int} {mX5_tail : Nat → Int} {mX5_ring : Nat → Option Nat} {mX58_number : Nat → Int} {mX58_sees : Nat → Int} {mX58_state : Nat → Option Nat} {mX59_writes : Nat → Option Nat} {mX59_count : Nat → Int} {mX59_noted : Nat → Option Nat} {mX59_waitsFor : Nat → Option Nat} {mX59_turn : Nat → Int} {mX59_triple : Nat → Int} {mX59_there : Nat → Int} {mX60_version : Nat → Int} {mX60_there : Nat → Int} {mX60_older : Nat → Option Nat} {mX66_version : Nat → Int} {mX66_count : Nat → Int} {mX66_next : Nat → Option Nat} {sa : Nat → Nat} {A A' : Nat → Int → Nat} {gi gi' : Nat → Nat × Int}
theorem CVT_c38 {K : Int → (Nat → Nat) → (Nat → Int → Option Nat) → (Nat → Int) → (Nat → Int) → (Nat → Int) → (Nat → Option Nat) → Nat → Nat → Prop} (hMC : 215 ≤ MC) (hMS : 710 ≤ MS) (G : LabU (tvK wr) tvL (tvU c wr vr ps) kd an A gi) (F : mX5_newest (A 0 0) = some (A 1 0)) (hR : tvRw ar mX60_version mX60_there mX60_older A vr) (hV : tvVr vr la) (hla : 0 ≤ la ∧ la < 62) (el : mX5_latest (A 0 0) = la) (eR : mX5_rows (A 0 0) = vtN 12800 vr) (ht : 0 ≤ t ∧ t < c) (hw : ¬ wr t = 0) (W : mX59_writes (A 7 t) = some (A 8 t)) (es : mX58_sees (A 7 t) = se t) (hse : se t ≤ la) (hws : ∀ k, 0 ≤ k → k < 200 → 0 ≤ ws (200 * t + k) ∧ ws (200 * t + k) ≤ 2) (hai : ∀ k, 0 ≤ k → k < 200 → ai (A 8 t) k = tvB (ws (200 * t + k)))
    (hp : ∀ A' gi' kd' ar' ro' ve' th' ol' kc ks, tvA c wr vr ps A A' → A' 10 0 = A 10 0 → LabU (tvK wr) tvL (tvU c wr (vCm vr ws se t la 200) ps) kd' an A' gi' → tvRw ar' ve' th' ol' A' (vCm vr ws se t la 200) → (∀ i, i ≠ 1 → tvU c wr vr ps i 0 → ar' (A i 0) = ar (A i 0)) → ro' (A 0 0) = vtN 12800 (vCm vr ws se t la 200) → (kc ≤ 210 ∧ ks ≤ 700) → K (pif (vMa vr ws se t 200) (la + 1) (se t)) kd' ar' ro' ve' th' ol' kc ks) : ∃ fu, wVT_X59_commit_38 MC MS K (A 7 t) (some (A 0 0)) an ai mX5_newest mX5_latest mX58_sees mX59_writes fu (se t) 0 kd ar mX5_rows mX60_version mX60_there mX60_older (0 + 10) (0 + 100) := by
  have key : ∀ (d : Nat) (i x2 : Int) (A' : Nat → Int → Nat) (gi' : Nat → Nat × Int) (kd' : Nat → Nat) (ar' : Nat → Int → Option Nat) (ro' ve' th' : Nat → Int) (ol' : Nat → Option Nat) (kc ks : Nat), (0 ≤ i ∧ i ≤ 200) → x2 = pif (vMa vr ws se t i) (la + 1) (se t) → tvA c wr vr ps A A' → A' 10 0 = A 10 0 → LabU (tvK wr) tvL (tvU c wr (vCm vr ws se t la i) ps) kd' an A' gi' → tvRw ar' ve' th' ol' A' (vCm vr ws se t la i) → (∀ j, j ≠ 1 → tvU c wr vr ps j 0 → ar' (A j 0) = ar (A j 0)) → ro' (A 0 0) = vtN 12800 (vCm vr ws se t la i) → ((kc : Int) ≤ 10 + i ∧ (ks : Int) ≤ 100 + 3 * i) → (200 - i).toNat < d → wVT_X59_commit_38 MC MS K (A 7 t) (some (A 0 0)) an ai mX5_newest mX5_latest mX58_sees mX59_writes d x2 i kd' ar' ro' ve' th' ol' kc ks := by
    intro d
    induction d with
    | zero => intro i _ _ _ _ _ _ _ _ _ _ _ _ _ _ _ _ _ _ _ _ h; omega
    | succ d ih =>
      intro i x2 A' gi' kd' ar' ro' ve' th' ol' kc ks hi hx hA h10 G2 R2 ha er hk hd
      rw [wVT_X59_commit_38]
      have a0 : A' 0 0 = A 0 0 := hA 0 0 (by decide) rfl
      have a1 : A' 1 0 = A 1 0 := hA 1 0 (by decide) rfl
      have a7 : A' 7 t = A 7 t := hA 7 t (by decide) ht
      have a8 : A' 8 t = A 8 t := hA 8 t (by decide) ⟨ht, hw⟩
      have V2 : tvVr (vCm vr ws se t la i) (la + 1) := vCm_V hV hla.1 hi.2 hws
      refine ⟨fun z => ?_, fun z => ?_⟩
      · have : i = 200 := by omega
        subst this
        rw [hx]
        exact hp A' gi' kd' ar' ro' ve' th' ol' kc ks hA h10 G2 R2 ha er (by omega)
      have ib : 0 ≤ i ∧ i < 200 := by omega
      have wb := hws i ib.1 ib.2
      have B := tvB_e wb
      have U8 : tvU c wr (vCm vr ws se t la i) ps 8 t := ⟨ht, hw⟩
      have k8 : kd' (A 8 t) = 8 := by rw [← a8]; exact G2.k 8 t U8
      have l8 : an (A 8 t) = 200 := by rw [← a8]; exact G2.l 8 t U8 (by decide)
      have k0 : kd' (A 0 0) = 1 := by rw [← a0]; exact G2.k 0 0 rfl
      have k1 : kd' (A 1 0) = 9 := by rw [← a1]; exact G2.k 1 0 rfl
      have l1 : an (A 1 0) = 200 := by rw [← a1]; exact G2.l 1 0 rfl (by decide)
      have th : vtTh (vCm vr ws se t la i) i (se t) ↔ vtTh vr i (se t) := vtTh_c (fun u hu => vCm_lo (by omega))
      obtain ⟨n0, en0⟩ : ∃ z, z = vtN 12800 (vCm vr ws se t la i) := ⟨_, rfl⟩
      have nb : 0 ≤ n0 ∧ n0 ≤ 13000 := by rw [en0]; exact vtN_le
      have skip : ¬ vMt vr ws se t i → wVT_X59_commit_38 MC MS K (A 7 t) (some (A 0 0)) an ai mX5_newest mX5_latest mX58_sees mX59_writes d x2 (i + 1) kd' ar' ro' ve' th' ol' kc ks := fun hm => ih (i + 1) x2 A' gi' kd' ar' ro' ve' th' ol' kc ks (by omega) (by rw [hx]; exact pif_c ⟨fun w => (vMa_s hi.1).mpr (Or.inl w), fun w => ((vMa_s hi.1).mp w).resolve_right hm⟩) hA h10 (by rw [vCm_n hm]; exact G2) (by rw [vCm_n hm]; exact R2) ha (by rw [vCm_n hm]; exact er) (by omega) (by omega)
      have go : ∀ y0 : Int, (y0 = 1 ∨ y0 = 0) → (y0 = 1 ↔ ws (200 * t + i) = 2) → ¬ ws (200 * t + i) = 0 → wVT_X59_commit_69 MC MS (wVT_X59_commit_38 MC MS K (A 7 t) (some (A 0 0)) an ai mX5_newest mX5_latest mX58_sees mX59_writes d) (A 7 t) (some (A 0 0)) x2 i y0 (kd') an ai (ar') mX5_newest (ro') mX5_latest mX58_sees mX59_writes (ve') (th') (ol') kc ks := fun y0 hy hy2 hw0 => by
        have add : vMt vr ws se t i → (zR (mX5_latest (A 0 0) + 1) ∧ ∀ x2_48 : Int, x2_48 = mX5_latest (A 0 0) + 1 → ((kc + 1 ≤ MC ∧ ks + 3 ≤ MS) ∧ ∀ q_49 : Nat, kd' q_49 = 0 → (∀ mX60_version_50 : Nat → Int, mX60_version_50 = va_up ve' q_49 0 → (∀ mX60_there_51 : Nat → Int, mX60_there_51 = va_up th' q_49 0 → (∀ mX60_older_52 : Nat → Option Nat, mX60_older_52 = va_up ol' q_49 none → (kOn (mX59_writes (A 7 t)) (fun b_55 => (va_up kd' q_49 4) b_55 = 8 ∧ ((0 ≤ i ∧ i < (an b_55 : Int)) ∧ ((((ai b_55 i) = 1 → (wVT_X59_commit_116 MC MS (wVT_X59_commit_38 MC MS K (A 7 t) (some (A 0 0)) an ai mX5_newest mX5_latest mX58_sees mX59_writes d) (some (A 0 0)) x2_48 i (mX5_newest (A 0 0)) i (some q_49) (some q_49) x2_48 1 (va_up kd' q_49 4) an ar' mX5_newest ro' mX60_version_50 mX60_there_51 mX60_older_52 (kc + 1) (ks + 3))) ∧ (¬ (ai b_55 i) = 1 → (wVT_X59_commit_116 MC MS (wVT_X59_commit_38 MC MS K (A 7 t) (some (A 0 0)) an ai mX5_newest mX5_latest mX58_sees mX59_writes d) (some (A 0 0)) x2_48 i (mX5_newest (A 0 0)) i (some q_49) (some q_49) x2_48 0 (va_up kd' q_49 4) an ar' mX5_newest ro' mX60_version_50 mX60_there_51 mX60_older_52 (kc + 1) (ks + 3))))))))))))) := fun hm => by
          rw [el]
          refine ⟨by omega, fun mk emk => ⟨⟨by omega, by omega⟩, fun q hq _ e1 _ e2 _ e3 => kOn_of W ⟨?_, ?_⟩⟩⟩
          · have n8 : A 8 t ≠ q := by rw [← a8]; exact G2.fresh hq U8
            rw [va_up_ne _ _ n8]; exact k8
          rw [l8, hai i ib.1 ib.2]
          have n0 : A 0 0 ≠ q := by rw [← a0]; exact G2.fresh (i := 0) (j := 0) hq rfl
          have n1 : A 1 0 ≠ q := by rw [← a1]; exact G2.fresh (i := 1) (j := 0) hq rfl
          have vz : vCm vr ws se t la i i (la + 1) = 0 := by
            have : vCm vr ws se t la i i (la + 1) = vr i (la + 1) := pif_f (fun w => by have := w.1; omega)
            rw [this]
            by_cases z : vr i (la + 1) = 0
            · exact z
            · have := (hV _ _ z).2.1; omega
          have hz : ∀ w, la < w → vCm vr ws se t la i i w = 0 := fun w hw2 => by
            have : vCm vr ws se t la i i w = vr i w := pif_f (fun w => by have := w.1; omega)
            rw [this]
            by_cases z : vr i w = 0
            · exact z
            · have := (hV _ _ z).2.1; omega
          obtain ⟨A2, eA2⟩ : ∃ A2, A2 = aUp A' 11 (64 * i + (la + 1)) q := ⟨_, rfl⟩
          have hA2 : ∀ i' j, tvU c wr (vCm vr ws se t la i) ps i' j → A2 i' j = A' i' j := fun i' j u => by
            rw [eA2, aUp_n]
            rintro ⟨rfl, rfl⟩
            have u : ¬ vCm vr ws se t la i ((64 * i + (la + 1)) / 64) ((64 * i + (la + 1)) % 64) = 0 := u
            rw [show (64 * i + (la + 1)) / 64 = i by omega, show (64 * i + (la + 1)) % 64 = la + 1 by omega] at u
            exact u vz
          have sub : ∀ i' j, tvU c wr vr ps i' j → tvU c wr (vCm vr ws se t la i) ps i' j := fun i' j u => tvU_m i' j u (fun _ h => h) (fun _ h => h) (fun _ h => by
            have := hV _ _ h
            rw [vCm_lo (by omega)]; exact h) (fun _ h => h)
          have hA3 : tvA c wr vr ps A A2 := fun i' j ne u => by rw [hA2 i' j (sub i' j u)]; exact hA i' j ne u
          have eo : ∀ k' w, ¬ (k' = i ∧ w = la + 1) → vCm vr ws se t la (i + 1) k' w = vCm vr ws se t la i k' w := fun k' w h => vCm_o h
          have ey := vCm_y (la := la) hm hi.1
          have G3 : LabU (tvK wr) tvL (tvU c wr (vCm vr ws se t la (i + 1)) ps) (va_up kd' q 4) an A2 (gUp gi' q 11 (64 * i + (la + 1))) := by
            have := G2.new (K' := tvK wr) (U' := tvU c wr (vCm vr ws se t la (i + 1)) ps) hq 11 (64 * i + (la + 1)) (an' := an) (fun i' j u ne => ⟨tvU_m i' j u (fun _ h => h) (fun _ h => h) (fun e h => by
              rw [eo _ _ (fun q => ne ⟨e, by omega⟩)] at h; exact h) (fun _ h => h), rfl⟩) (show (4 : Nat) ≠ 0 by decide) (fun _ _ => rfl) (fun h => absurd rfl h)
            rw [← eA2] at this
            exact this
          have fin : ∀ e0 : Int, (e0 = 0 ∨ e0 = 1) → ws (200 * t + i) = (if e0 = 0 then 1 else 2) → wVT_X59_commit_116 MC MS (wVT_X59_commit_38 MC MS K (A 7 t) (some (A 0 0)) an ai mX5_newest mX5_latest mX58_sees mX59_writes d) (some (A 0 0)) mk i (mX5_newest (A 0 0)) i (some q) (some q) mk e0 (va_up kd' q 4) an ar' mX5_newest ro' (va_up ve' q 0) (va_up th' q 0) (va_up ol' q none) (kc + 1) (ks + 3) := fun e0 he0 ee => by
            unfold wVT_X59_commit_116
            refine kOn_some ⟨by rw [va_up_ne _ _ n0]; exact k0, kOn_of F ⟨by rw [va_up_ne _ _ n1]; exact k1, by rw [l1]; exact ib, fun r65 e65 => kOn_some ⟨va_up_self _ _ _, ⟨by omega, by omega⟩, ?_⟩⟩⟩
            unfold wpVT_X60_init
            intro _ f1
            refine ⟨he0, fun _ f2 _ f3 => kOn_of F ⟨by rw [va_up_ne _ _ n1]; exact k1, by rw [l1]; exact ib, kOn_some ⟨va_up_self _ _ _, fun ar2 f4 => ?_⟩⟩⟩
            rw [er, ← en0]
            refine ⟨by omega, fun _ f5 ro2 f6 => ⟨by omega, fun _ f7 => ?_⟩⟩
            subst f1 f2 f3 f5 f7
            rw [va_up_up, va_up_up, va_up_up, emk]
            have R3 : tvRw ar2 (va_up ve' q (la + 1)) (va_up th' q e0) (va_up ol' q r65) A2 (vCm vr ws se t la (i + 1)) := by
              rw [f4, e65, ← a1]
              exact tvRw.add (ar := ar') (mX60_version := ve') (mX60_there := th') (mX60_older := ol') G2 hq R2 V2 hla ib hz hA2 (by rw [eA2, aUp_s]) he0 (by rw [ey]; exact ee) eo
            refine ih (i + 1) (la + 1) A2 _ _ ar2 ro2 _ _ _ (kc + 1) (ks + 3) (by omega) (by rw [pif_t ((vMa_s hi.1).mpr (Or.inr hm))]) hA3 (by rw [hA2 10 0 rfl]; exact h10) G3 R3 (fun j hj u => ?_) ?_ (by omega) (by omega)
            · rw [f4, va_up_ne _ _ (G.ne u (i' := 1) (j' := 0) rfl (Or.inl hj))]; exact ha j hj u
            · rw [f6, va_up_self, en0]
              exact (vtN_a hi.1 (by omega) (by omega) vz (by rw [ey]; exact hw0) eo).symm
          subst e1 e2 e3
          refine ⟨ib, fun z1 => fin 1 (Or.inr rfl) (by rw [if_neg (by decide)]; exact B.2.mp z1), fun z1 => fin 0 (Or.inl rfl) ?_⟩
          rw [if_pos rfl]
          have : ¬ ws (200 * t + i) = 2 := fun q => z1 (B.2.mpr q)
          omega
        unfold wVT_X59_commit_69
        refine kOn_some ⟨k0, ⟨by omega, by omega⟩, ?_⟩
        rw [es, ← a0]
        refine CVT_isThere (kd := kd') (ar := ar') (mX60_version := ve') (mX60_there := th') (mX60_older := ol') G2 (by rw [a0, a1]; exact F) R2 V2 (by omega) ib (by omega) (fun yes => ?_) (fun no => ?_)
        · rw [a0]
          refine ⟨fun e => ⟨by omega, fun _ e1 => ?_⟩, fun e => add ⟨hw0, fun w => e (hy2.mpr (w.mpr (th.mp yes)))⟩⟩
          rw [e1]
          exact skip (fun hm => hm.2 ⟨fun _ => th.mp yes, fun _ => hy2.mp e⟩)
        · rw [a0]
          refine ⟨fun e => ⟨by omega, fun _ e1 => ?_⟩, fun e => add ⟨hw0, fun w => no (th.mpr (w.mp (hy2.mp (hy.resolve_right e))))⟩⟩
          rw [e1]
          exact skip (fun hm => hm.2 ⟨fun w => by have := hy2.mpr w; omega, fun w => absurd (th.mpr w) no⟩)
      refine kOn_of W ⟨k8, ?_⟩
      rw [l8, hai i ib.1 ib.2]
      refine ⟨ib, fun z0 => ⟨by omega, fun _ e1 => ?_⟩, fun z0 => ⟨fun z1 => ?_, fun z1 => ?_⟩⟩
      · rw [e1]; exact skip (fun hm => hm.1 (B.1.mp z0))
      · exact go 1 (Or.inl rfl) ⟨fun _ => B.2.mp z1, fun _ => rfl⟩ (fun q => z0 (B.1.mpr q))
      · exact go 0 (Or.inr rfl) ⟨fun w => absurd w (by decide), fun w => absurd (B.2.mpr w) z1⟩ (fun q => z0 (B.1.mpr q))
  exact ⟨_, key _ 0 (se t) A gi kd ar mX5_rows mX60_version mX60_there mX60_older (0 + 10) (0 + 100) (by decide) (by rw [pif_f (fun ⟨k, a, _⟩ => by omega)]) tvA.r rfl (by rw [vCm_0]; exact G) (by rw [vCm_0]; exact hR) (fun _ _ _ => rfl) (by rw [vCm_0]; exact eR) (by omega) (Nat.lt_succ_self _)⟩
end

/-! VersionTrans (room VT): commit -/
/-- how a commit ends -/
def tvOut (S : VS) (vr : Int → Int → Int) (la c : Int) (wr se : Int → Int) (nt : Int → Int → Int) (rf : Int → Int) (t : Int) (r : Int) (S2 : VS) (vr2 : Int → Int → Int) (la2 : Int) (rf2 : Int → Int) : Prop :=
  (r = 0 ∧ S2 = vEnd c t 4 S ∧ vr2 = vr ∧ la2 = la ∧ rf2 = rf ∧ S.st t = 2 ∧ ¬ wr t = 0) ∨
  (∃ g, (0 ≤ g ∧ g < 4) ∧ ¬ nt t g = 0 ∧ vtCg vr (se t) g ∧ (∀ h, 0 ≤ h → h < g → ¬ nt t h = 0 → ¬ vtCg vr (se t) h) ∧ r = 0 ∧ S2 = vEnd c t 4 S ∧ vr2 = vr ∧ la2 = la ∧ rf2 = updI rf g (rf g + 1) ∧ S.st t = 0 ∧ ¬ wr t = 0) ∨
  ((∀ g, 0 ≤ g → g < 4 → ¬ nt t g = 0 → ¬ vtCg vr (se t) g) ∧ r = pif (vMa vr S.ws se t 200) (la + 1) (se t) ∧ S2 = vEnd c t 3 S ∧ vr2 = vCm vr S.ws se t la 200 ∧ la2 = pif (vMa vr S.ws se t 200) (la + 1) la ∧ rf2 = rf ∧ S.st t = 0 ∧ ¬ wr t = 0) ∨
  (wr t = 0 ∧ r = se t ∧ S2 = vEnd c t 3 S ∧ vr2 = vr ∧ la2 = la ∧ rf2 = rf)
section
variable {c la k v t l x e : Int} {wr se pn rf st wf ws : Int → Int} {vr V V' nt : Int → Int → Int} {ps : List Int} {S T : VS} {MC MS : Nat}
variable {kd : Nat → Nat} {an : Nat → Nat} {ai : Nat → Int → Int} {al : Nat → Int → Int} {ar : Nat → Int → Option Nat} {mX5_newest : Nat → Option Nat} {mX5_rows : Nat → Int} {mX5_latest : Nat → Int} {mX5_pins : Nat → Option Nat} {mX5_transactions : Nat → Option Nat} {mX5_count : Nat → Int} {mX5_holders : Nat → Option Nat} {mX5_tripleConflicts : Nat → Option Nat} {mX5_graphConflicts : Nat → Option Nat} {mX5_turns : Nat → Int} {mX5_queue : Nat → Option Nat} {mX5_head : Nat → Int} {mX5_tail : Nat → Int} {mX5_ring : Nat → Option Nat} {mX58_number : Nat → Int} {mX58_sees : Nat → Int} {mX58_state : Nat → Option Nat} {mX59_writes : Nat → Option Nat} {mX59_count : Nat → Int} {mX59_noted : Nat → Option Nat} {mX59_waitsFor : Nat → Option Nat} {mX59_turn : Nat → Int} {mX59_triple : Nat → Int} {mX59_there : Nat → Int} {mX60_version : Nat → Int} {mX60_there : Nat → Int} {mX60_older : Nat → Option Nat} {mX66_version : Nat → Int} {mX66_count : Nat → Int} {mX66_next : Nat → Option Nat} {sa : Nat → Nat} {A A' : Nat → Int → Nat} {gi gi' : Nat → Nat × Int}
theorem CVT_commitD {post : Int → (Nat → Nat) → (Nat → Int → Int) → (Nat → Int → Option Nat) → (Nat → Int) → (Nat → Int) → (Nat → Int) → (Nat → Option Nat) → (Nat → Int) → (Nat → Option Nat) → (Nat → Int) → (Nat → Int) → (Nat → Option Nat) → Prop} {px : Nat → (Nat → Nat) → (Nat → Int → Int) → (Nat → Int → Option Nat) → (Nat → Int) → (Nat → Int) → (Nat → Int) → (Nat → Option Nat) → (Nat → Int) → (Nat → Option Nat) → (Nat → Int) → (Nat → Int) → (Nat → Option Nat) → Prop} (hC : 215 ≤ MC) (hS : 710 ≤ MS) (hsa : tvSa sa) (O : tvOK kd an ai al ar mX5_newest mX5_rows mX5_latest mX5_pins mX5_transactions mX5_count mX5_holders mX5_tripleConflicts mX5_graphConflicts mX5_turns mX5_queue mX5_head mX5_tail mX5_ring mX58_number mX58_sees mX58_state mX59_writes mX59_count mX59_noted mX59_waitsFor mX59_turn mX59_triple mX59_there mX60_version mX60_there mX60_older mX66_version mX66_count mX66_next sa A gi S vr la c wr se pn ps nt rf) (I : tvH S vr la c wr se pn ps) (hrf : ∀ j, 0 ≤ j → j < 4 → 0 ≤ rf j ∧ rf j ≤ 890000) (ht : 0 ≤ t ∧ t < c) (hs : S.st t = 0 ∨ S.st t = 2) (hp : ∀ r S2 vr2 la2 rf2 A' gi' kd' ai' ar' ro' lt' tl sm cn wf' ve' th' ol', tvOut S vr la c wr se nt rf t r S2 vr2 la2 rf2 → tvA c wr vr ps A A' → tvOK (kd') an (ai') al (ar') mX5_newest (ro') (lt') mX5_pins mX5_transactions mX5_count mX5_holders mX5_tripleConflicts mX5_graphConflicts mX5_turns mX5_queue mX5_head tl mX5_ring mX58_number mX58_sees sm mX59_writes cn mX59_noted (wf') mX59_turn mX59_triple mX59_there (ve') (th') (ol') mX66_version mX66_count mX66_next sa A' gi' S2 vr2 la2 c wr se pn ps nt rf2 → post r kd' ai' ar' ro' lt' tl sm cn wf' ve' th' ol') : wpDVT_X59_commit_2_3 MC MS post px kd an ai ar mX5_newest mX5_rows mX5_latest mX5_transactions mX5_count mX5_holders mX5_graphConflicts mX5_queue mX5_tail mX58_sees mX58_state mX59_writes mX59_count mX59_noted mX59_waitsFor mX59_turn mX60_version mX60_there mX60_older sa (A 7 t) (some (A 0 0)) := by
  obtain ⟨⟨G, F, T, R, P, N, ⟨n1, n2, n3⟩, r4⟩, D⟩ := id O
  obtain ⟨i1, i2, i3, i4, i5, i6, i7, i8, i9, i10, i11⟩ := I
  have T1 := T t ht.1 ht.2
  have l0 : S.Q.length = 0 := by rw [i7]; rfl
  have sl := i5 t ht.1 ht.2
  unfold wpDVT_X59_commit_2_3
  by_cases hw : wr t = 0
  · refine Or.inr ⟨tvKr G ht hw, ?_⟩
    unfold wpVT_X65_commit
    intro sm es
    rw [T1.2.2.1]
    exact ⟨by omega, by omega, hp _ _ _ _ _ A gi kd ai ar mX5_rows mX5_latest mX5_tail sm mX59_count mX59_waitsFor mX60_version mX60_there mX60_older (Or.inr (Or.inr (Or.inr ⟨hw, rfl, rfl, rfl, rfl, rfl⟩))) tvA.r (O.rd i6.1 ht hw (x := 3) (by decide) es)⟩
  refine Or.inl ⟨tvKw G ht hw, ?_⟩
  have e2 := D.1.e hsa ht 2 (by decide)
  unfold wpVT_X59_commit
  refine ⟨fun z => kOn_some ⟨G.k 0 0 rfl, ⟨by omega, by omega⟩, ?_⟩, fun z => ⟨10, 100, ⟨by omega, by omega⟩, ?_⟩⟩
  · have s2 : S.st t = 2 := e2.mp z
    unfold wpVT_X5_refuse
    refine kOn_some ⟨tvKw G ht hw, fun sm es => ?_⟩
    exact CVT_end (mX58_state := sm) (sm0 := mX58_state) (x := 4) hsa es O i6.1 i2 ht hw (by decide) (by omega) (fun ai2 ar2 tl2 cn2 wf2 O2 => ⟨by omega, by omega, hp _ _ _ _ _ A gi _ _ _ _ _ _ _ _ _ _ _ _ (Or.inl ⟨rfl, rfl, rfl, rfl, rfl, s2, hw⟩) tvA.r O2⟩)
  · have s0 : S.st t = 0 := hs.resolve_right (fun q => z (e2.mpr q))
    unfold wpVT_X59_look
    refine CVT_look2 ⟨by omega, by omega⟩ G F.1 R i3 (by omega) ht hw (T1.2.2.2 hw).2 T1.2.2.1 N (fun nc => ⟨by omega, by omega, fun x2 ex2 => ?_⟩) (fun g g0 g4 gn gc gl => kOn_some ⟨G.k 0 0 rfl, kOn_of F.2.2.2.2.1 ⟨G.k 5 0 rfl, ?_⟩⟩)
    · rw [T1.2.2.1] at ex2
      rw [ex2]
      refine CVT_c38 hC hS G F.1 R i3 i1 n2 n1 ht hw (T1.2.2.2 hw).1 T1.2.2.1 sl.2 (fun k a b => i10 _ (by omega) (by omega)) (D.2.2.1 t ht.1 ht.2 hw (by omega)).1 (fun A' gi' kd' ar' ro' ve' th' ol' kc ks hA h10 G2 R2 ha er hk => ?_)
      have a0 : A' 0 0 = A 0 0 := hA 0 0 (by decide) rfl
      have a7 : A' 7 t = A 7 t := hA 7 t (by decide) ht
      rw [← a0, ← a7]
      refine kOn_some ⟨G2.k 0 0 rfl, ⟨by omega, by omega⟩, fun v ev lt' elt sm es => ⟨⟨by omega, by omega⟩, ?_⟩⟩
      have el : lt' (A' 0 0) = pif (vMa vr S.ws se t 200) (la + 1) la := by
        rw [elt, va_up_self, ev, a0, n2]
        by_cases ma : vMa vr S.ws se t 200
        · rw [pif_t ma, pif_t ma, if_pos (by omega)]
        · rw [pif_f ma, pif_f ma, if_neg (by omega)]
      have O2 : tvOK (kd') an ai al (ar') mX5_newest (ro') (lt') mX5_pins mX5_transactions mX5_count mX5_holders mX5_tripleConflicts mX5_graphConflicts mX5_turns mX5_queue mX5_head mX5_tail mX5_ring mX58_number mX58_sees mX58_state mX59_writes mX59_count mX59_noted mX59_waitsFor mX59_turn mX59_triple mX59_there (ve') (th') (ol') mX66_version mX66_count mX66_next sa A' gi' S (vCm vr S.ws se t la 200) (pif (vMa vr S.ws se t 200) (la + 1) la) c wr se pn ps nt rf :=
        ⟨⟨G2, F.tr hA, T.tr hA (ha 2 (by decide) rfl) AgC.r AgC.r AgC.r AgC.r, R2, ⟨by rw [a0]; exact tvPl.tr hA AgC.r ps _ (fun w h => h) P.1, P.2.tr hA AgC.r AgC.r⟩, N.tr hA AgC.r, ⟨by rw [a0]; exact er, el, by rw [a0]; exact n3⟩, fun g a b => by rw [hA 5 0 (by decide) rfl]; exact r4 g a b⟩, D.tr (kd' := kd') i6.1 hA h10 rfl rfl rfl AgC.r (ha 3 (by decide) rfl) (ha 6 (by decide) rfl) AgC.r AgC.r AgC.r AgC.r AgC.r AgC.r⟩
      exact CVT_end (kd := kd') (ar := ar') (mX5_rows := ro') (mX5_latest := lt') (mX60_version := ve') (mX60_there := th') (mX60_older := ol') (mX58_state := sm) (sm0 := mX58_state) (x := 3) hsa es O2 i6.1 i2 ht hw (by decide) (by omega) (fun ai2 ar2 tl2 cn2 wf2 O3 => ⟨by omega, by omega, hp _ _ _ _ _ A' gi' _ _ _ _ _ _ _ _ _ _ _ _ (Or.inr (Or.inr (Or.inl ⟨nc, rfl, rfl, rfl, rfl, rfl, s0, hw⟩))) hA O3⟩)
    · rw [G.l 5 0 rfl (by decide), r4 g g0 g4]
      have rb := hrf g g0 g4
      refine ⟨⟨g0, g4⟩, by omega, fun v ev ai' ea => ⟨by omega, by omega, fun q => absurd q (by decide), fun _ => kOn_some ⟨G.k 0 0 rfl, ⟨by omega, by omega⟩, ?_⟩⟩⟩
      have n5 : ∀ i j, tvU c wr vr ps i j → i ≠ 5 → A i j ≠ A 5 0 := fun i j u h => G.ne u (i' := 5) (j' := 0) rfl (Or.inl h)
      have O2 : tvOK kd an (ai') al ar mX5_newest mX5_rows mX5_latest mX5_pins mX5_transactions mX5_count mX5_holders mX5_tripleConflicts mX5_graphConflicts mX5_turns mX5_queue mX5_head mX5_tail mX5_ring mX58_number mX58_sees mX58_state mX59_writes mX59_count mX59_noted mX59_waitsFor mX59_turn mX59_triple mX59_there mX60_version mX60_there mX60_older mX66_version mX66_count mX66_next sa A gi S vr la c wr se pn ps nt (updI rf g (rf g + 1)) := by
        obtain ⟨d1, d2, d3, d4, d5, d6, d7, d8, d9, d10, d11⟩ := D
        refine ⟨⟨G, F, T, R, P, fun w a b q h p p2 => ?_, ⟨n1, n2, n3⟩, fun h a b => ?_⟩, d1, d2, fun w a b q s => ⟨fun k p p2 => ?_, (d3 w a b q s).2⟩, d4, d5, d6, fun k a b => ?_, d8, d9, ?_, d11⟩
        · rw [ea, va_up_ne _ _ (n5 9 w ⟨⟨a, b⟩, q⟩ (by decide))]; exact N w a b q h p p2
        · rw [ea, va_up_self, ev]
          by_cases q : h = g
          · subst q; rw [updI_s, updI_s]
          · rw [updI_n q, updI_n q]; exact r4 h a b
        · rw [ea, va_up_ne _ _ (n5 8 w ⟨⟨a, b⟩, q⟩ (by decide))]; exact (d3 w a b q s).1 k p p2
        · rw [ea, va_up_ne _ _ (n5 4 0 rfl (by decide))]; exact d7 k a b
        · rw [ea, va_up_ne _ _ (n5 10 0 rfl (by decide))]; exact d10
      unfold wpVT_X5_refuse
      refine kOn_some ⟨tvKw G ht hw, fun sm es => ?_⟩
      exact CVT_end (ai := ai') (mX58_state := sm) (sm0 := mX58_state) (x := 4) hsa es O2 i6.1 i2 ht hw (by decide) (by omega) (fun ai2 ar2 tl2 cn2 wf2 O3 => ⟨by omega, by omega, hp _ _ _ _ _ A gi _ _ _ _ _ _ _ _ _ _ _ _ (Or.inr (Or.inl ⟨g, ⟨g0, g4⟩, gn, gc, gl, rfl, rfl, rfl, rfl, rfl, s0, hw⟩)) tvA.r O3⟩)
theorem CVT_commit {post : Int → (Nat → Nat) → (Nat → Nat) → (Nat → Int → Int) → (Nat → Int → Option Nat) → (Nat → Int) → (Nat → Int) → (Nat → Int) → (Nat → Int) → (Nat → Int) → (Nat → Option Nat) → (Nat → Option Nat) → (Nat → Int) → (Nat → Option Nat) → (Nat → Int) → (Nat → Int) → (Nat → Int) → (Nat → Option Nat) → Prop} {px : Nat → (Nat → Nat) → (Nat → Nat) → (Nat → Int → Int) → (Nat → Int → Option Nat) → (Nat → Int) → (Nat → Int) → (Nat → Int) → (Nat → Int) → (Nat → Int) → (Nat → Option Nat) → (Nat → Option Nat) → (Nat → Int) → (Nat → Option Nat) → (Nat → Int) → (Nat → Int) → (Nat → Int) → (Nat → Option Nat) → Prop} (hC : 300 ≤ MC) (hS : 5000 ≤ MS) (hsa : tvSa sa) (O : tvOK kd an ai al ar mX5_newest mX5_rows mX5_latest mX5_pins mX5_transactions mX5_count mX5_holders mX5_tripleConflicts mX5_graphConflicts mX5_turns mX5_queue mX5_head mX5_tail mX5_ring mX58_number mX58_sees mX58_state mX59_writes mX59_count mX59_noted mX59_waitsFor mX59_turn mX59_triple mX59_there mX60_version mX60_there mX60_older mX66_version mX66_count mX66_next sa A gi S vr la c wr se pn ps nt rf) (I : tvH S vr la c wr se pn ps) (hrf : ∀ j, 0 ≤ j → j < 4 → 0 ≤ rf j ∧ rf j ≤ 890000) (h1 : ¬ (0 ≤ t ∧ t < c) → px 1 kd an ai ar mX5_rows mX5_latest mX5_turns mX5_head mX5_tail mX5_ring mX58_state mX59_count mX59_waitsFor mX59_turn mX60_version mX60_there mX60_older) (h2 : 0 ≤ t ∧ t < c → ¬ (S.st t = 0 ∨ S.st t = 2) → px 2 kd an ai ar mX5_rows mX5_latest mX5_turns mX5_head mX5_tail mX5_ring mX58_state mX59_count mX59_waitsFor mX59_turn mX60_version mX60_there mX60_older) (h0 : 0 ≤ t ∧ t < c → (S.st t = 0 ∨ S.st t = 2) → ∀ r S2 vr2 la2 rf2 V A' gi' kd' an' ai' ar' ro' lt' tn hd tl rg sm cn wf' tu ve' th' ol', tvOut S vr la c wr se nt rf t r S2 vr2 la2 rf2 → V = vG c vr2 se S2 → A' 0 0 = A 0 0 → tvOK (kd') (an') (ai') al (ar') mX5_newest (ro') (lt') mX5_pins mX5_transactions mX5_count mX5_holders mX5_tripleConflicts mX5_graphConflicts tn mX5_queue hd tl rg mX58_number mX58_sees sm mX59_writes cn mX59_noted (wf') tu mX59_triple mX59_there (ve') (th') (ol') mX66_version mX66_count mX66_next sa A' gi' V vr2 la2 c wr se pn ps nt rf2 → post r kd' an' ai' ar' ro' lt' tn hd tl rg sm cn wf' tu ve' th' ol') : wpVT_X5_commit MC MS post px kd an ai ar mX5_newest mX5_rows mX5_latest mX5_transactions mX5_count mX5_holders mX5_tripleConflicts mX5_graphConflicts mX5_turns mX5_queue mX5_head mX5_tail mX5_ring mX58_number mX58_sees mX58_state mX59_writes mX59_count mX59_noted mX59_waitsFor mX59_turn mX59_triple mX59_there mX60_version mX60_there mX60_older sa (A 0 0) t := by
  obtain ⟨⟨G, F, T, R, P, N, ⟨n1, n2, n3⟩, r4⟩, D⟩ := id O
  obtain ⟨i1, i2, i3, i4, i5, i6, i7, i8, i9, i10, i11⟩ := id I
  have Mb := vM_b (S := S) (c := c) (by omega)
  have Db := vD_b (S := S) (c := c) i2.1
  have l0 : (S.Q.length : Int) = 0 := by rw [i7]; rfl
  have M0 : vM c S ≤ 3540 := by unfold vM; omega
  unfold wpVT_X5_commit
  refine ⟨1, 6, ⟨by omega, by omega⟩, CVT_at (by decide) (by decide) G F.2.1 T n3 (by omega) h1 (fun ht => kOn_some ⟨tvKk G ht, ⟨by omega, by omega⟩, CVT_live G hsa D.1 ht (fun lv => ⟨fun q => absurd q (by decide), fun _ => ⟨fun ew => ?_, fun ew => ?_⟩⟩) (fun lv => ⟨fun _ => ⟨1, 6, ⟨by omega, by omega⟩, CVT_may (by decide) (by decide) (fun _ => h2 ht (by omega)) (fun q => absurd rfl q)⟩, fun q => absurd rfl q⟩)⟩)⟩
  · have e1 := D.1.e hsa ht 1 (by decide)
    have s1 := e1.mp ew
    exact ⟨1, 6, ⟨by omega, by omega⟩, CVT_may (by decide) (by decide) (fun _ => h2 ht (by omega)) (fun q => absurd rfl q)⟩
  · have e1 := D.1.e hsa ht 1 (by decide)
    have s1 : ¬ S.st t = 1 := fun q => ew (e1.mpr q)
    have sb := (D.1 t ht.1 ht.2).2
    have hs : S.st t = 0 ∨ S.st t = 2 := by omega
    refine ⟨1, 6, ⟨by omega, by omega⟩, CVT_may (by decide) (by decide) (fun q => absurd q (by decide)) (fun _ => ⟨215, 710, ⟨by omega, by omega⟩, CVT_commitD (by decide) (by decide) hsa O I hrf ht hs (fun r S2 vr2 la2 rf2 A2 gi2 kd2 ai2 ar2 ro2 lt2 tl2 sm2 cn2 wf2 ve2 th2 ol2 hout hA2 O2 _ => ?_)⟩)⟩
    have W : vWs c wr S := ⟨i10, i11⟩
    have ok : (tvVr vr2 la2 ∧ la2 < 64) ∧ vI c wr S2 ∧ vM c S2 ≤ 3540 ∧ S2.ck = S.ck ∧ S2.fl = S.fl ∧ S2.ws = S.ws := by
      obtain ⟨E1, E2⟩ := vEnd_I (x := 4) i6 (by omega) ht (by decide) lv
      obtain ⟨E3, E4⟩ := vEnd_I (x := 3) i6 (by omega) ht (by decide) lv
      rcases hout with ⟨_, rfl, rfl, rfl, _⟩ | ⟨g, _, _, _, _, _, rfl, rfl, rfl, _⟩ | ⟨_, _, rfl, rfl, rfl, _⟩ | ⟨_, _, rfl, rfl, rfl, _⟩
      · exact ⟨⟨i3, by omega⟩, E1, by omega, rfl, rfl, rfl⟩
      · exact ⟨⟨i3, by omega⟩, E1, by omega, rfl, rfl, rfl⟩
      · refine ⟨⟨?_, ?_⟩, E3, by omega, rfl, rfl, rfl⟩
        · have q := vCm_V (vr := vr) (ws := S.ws) (se := se) (t := t) (N := 200) i3 i1.1 (by decide) (fun k a b => i10 _ (by omega) (by omega))
          by_cases ma : vMa vr S.ws se t 200
          · rw [pif_t ma]; exact q
          · rw [pif_f ma]
            intro k v h
            have e : vCm vr S.ws se t la 200 k v = vr k v := pif_f (fun w => ma ⟨k, w.1, w.2.2⟩)
            rw [e] at h ⊢
            exact i3 k v h
        · by_cases ma : vMa vr S.ws se t 200
          · rw [pif_t ma]; omega
          · rw [pif_f ma]; omega
      · exact ⟨⟨i3, by omega⟩, E3, by omega, rfl, rfl, rfl⟩
    obtain ⟨o1, o2, o3, o4, o5, o6⟩ := ok
    rw [← hA2 0 0 (by decide) rfl]
    refine ⟨60, 3600, ⟨by omega, by omega⟩, CVT_settle (S := S2) (kd := kd2) (ai := ai2) (ar := ar2) (mX5_rows := ro2) (mX5_latest := lt2) (mX5_tail := tl2) (mX58_state := sm2) (mX59_count := cn2) (mX59_waitsFor := wf2) (mX60_version := ve2) (mX60_there := th2) (mX60_older := ol2) (by decide) (by decide) hsa O2 o2 (by unfold vWs; rw [o6]; exact W) o1 i2 o3 (by rw [o4]; omega) (fun j a b => by rw [o5]; have := i9 j a b; omega) (fun A3 gi3 kd3 an3 ai3 ar3 tn3 hd3 tl3 rg3 sm3 cn3 wf3 tu3 hA3 O3 _ => ⟨by omega, by omega, ?_⟩)⟩
    exact h0 ht hs r S2 vr2 la2 rf2 _ A3 gi3 kd3 an3 ai3 ar3 ro2 lt2 tn3 hd3 tl3 rg3 sm3 cn3 wf3 tu3 ve2 th2 ol2 hout rfl (by rw [hA3 0 0 (by decide) rfl, hA2 0 0 (by decide) rfl]) O3
end
