/-! VirtualRewrite (room VR): the shape of its cells by labels; tables -/
/-- labels: 0 this, 1 table, 2 its cells, 3 its keys, 4 tables, 5 mappings, 6 mapping, 7 its templates, 8 its columns, 9 atoms, 10 atom, 11 its places, 12 13 14 spans, 15 unions, 16 union, 17 its mappings, 18 its slots,
    19 chosen, 20 kinds, 21 given, 22 rowOf, 23 answers, 24 foundBy, 25 firstBy, 26 lastBy -/
def vK : Nat → Nat
  | 0 => 1 | 1 => 2 | 2 => 6 | 3 => 7 | 4 => 8 | 5 => 9 | 6 => 4 | 7 => 6 | 8 => 6 | 9 => 10 | 10 => 5 | 11 => 6 | 12 => 6 | 13 => 6 | 14 => 6 | 15 => 11 | 16 => 3 | 17 => 6 | 18 => 6
  | 19 => 6 | 20 => 6 | 21 => 6 | 22 => 6 | 23 => 6 | 24 => 6 | 25 => 6 | 26 => 6 | _ => 99
def vL : Nat → Nat
  | 2 => 60 | 3 => 3 | 4 => 4 | 5 => 12 | 7 => 2 | 8 => 2 | 9 => 4 | 11 => 2 | 12 => 4 | 13 => 4 | 14 => 4 | 15 => 150 | 17 => 4 | 18 => 4
  | 19 => 4 | 20 => 6 | 21 => 6 | 22 => 4 | 23 => 1800 | 24 => 300 | 25 => 300 | 26 => 300 | _ => 0
def vN (mc ac : Int) : Nat → Int
  | 0 => 1 | 1 => 4 | 2 => 4 | 3 => 4 | 4 => 1 | 5 => 1 | 9 => 1 | 12 => 1 | 13 => 1 | 14 => 1 | 15 => 1 | 19 => 1 | 20 => 1 | 21 => 1 | 22 => 1 | 23 => 1 | 24 => 1 | 25 => 1 | 26 => 1 | 6 => mc | 7 => mc | 8 => mc | 10 => ac | 11 => ac | 16 => 150 | 17 => 150 | 18 => 150 | _ => 0
/-- the shape -/
def vSh (h : HpVR) (A : Nat → Int → Nat) (g : Nat → Nat × Int) (mc ac : Int) (tb : Int → Int) : Prop :=
  Lab vK vL h.kd h.an A g (vN mc ac) ∧
  (h.mX32_tables (A 0 0) = some (A 4 0) ∧ h.mX32_mappings (A 0 0) = some (A 5 0) ∧ h.mX32_atoms (A 0 0) = some (A 9 0) ∧ h.mX32_unions (A 0 0) = some (A 15 0)) ∧
  (h.mX32_spanOf (A 0 0) = some (A 12 0) ∧ h.mX32_spanFrom (A 0 0) = some (A 13 0) ∧ h.mX32_spanTo (A 0 0) = some (A 14 0)) ∧
  (h.mX32_chosen (A 0 0) = some (A 19 0) ∧ h.mX32_kinds (A 0 0) = some (A 20 0) ∧ h.mX32_given (A 0 0) = some (A 21 0) ∧ h.mX32_rowOf (A 0 0) = some (A 22 0)) ∧
  (h.mX32_answers (A 0 0) = some (A 23 0) ∧ h.mX32_foundBy (A 0 0) = some (A 24 0) ∧ h.mX32_firstBy (A 0 0) = some (A 25 0) ∧ h.mX32_lastBy (A 0 0) = some (A 26 0)) ∧
  (∀ t, 0 ≤ t → t < 4 → h.ar (A 4 0) t = some (A 1 t) ∧ h.mX33_cells (A 1 t) = some (A 2 t) ∧ h.mX33_keys (A 1 t) = some (A 3 t)) ∧
  (∀ m, 0 ≤ m → m < mc → h.ar (A 5 0) m = some (A 6 m) ∧ h.mX81_table (A 6 m) = some (A 1 (tb m)) ∧ h.mX81_templates (A 6 m) = some (A 7 m) ∧ h.mX81_columns (A 6 m) = some (A 8 m) ∧ 0 ≤ tb m ∧ tb m < 4) ∧
  (∀ k, 0 ≤ k → k < ac → h.ar (A 9 0) k = some (A 10 k) ∧ h.mX82_places (A 10 k) = some (A 11 k)) ∧
  (∀ u, 0 ≤ u → u < 150 → h.ar (A 15 0) u = some (A 16 u) ∧ h.mX34_mappings (A 16 u) = some (A 17 u) ∧ h.mX34_slots (A 16 u) = some (A 18 u))
theorem vSh.lab {h : HpVR} {A : Nat → Int → Nat} {g : Nat → Nat × Int} {mc ac : Int} {tb : Int → Int} (S : vSh h A g mc ac tb) : Lab vK vL h.kd h.an A g (vN mc ac) := S.1
theorem vSh.rt {h : HpVR} {A : Nat → Int → Nat} {g : Nat → Nat × Int} {mc ac : Int} {tb : Int → Int} (S : vSh h A g mc ac tb) : h.mX32_tables (A 0 0) = some (A 4 0) ∧ h.mX32_mappings (A 0 0) = some (A 5 0) ∧ h.mX32_atoms (A 0 0) = some (A 9 0) ∧ h.mX32_unions (A 0 0) = some (A 15 0) := S.2.1
theorem vSh.rs {h : HpVR} {A : Nat → Int → Nat} {g : Nat → Nat × Int} {mc ac : Int} {tb : Int → Int} (S : vSh h A g mc ac tb) : h.mX32_spanOf (A 0 0) = some (A 12 0) ∧ h.mX32_spanFrom (A 0 0) = some (A 13 0) ∧ h.mX32_spanTo (A 0 0) = some (A 14 0) := S.2.2.1
theorem vSh.rw {h : HpVR} {A : Nat → Int → Nat} {g : Nat → Nat × Int} {mc ac : Int} {tb : Int → Int} (S : vSh h A g mc ac tb) : h.mX32_chosen (A 0 0) = some (A 19 0) ∧ h.mX32_kinds (A 0 0) = some (A 20 0) ∧ h.mX32_given (A 0 0) = some (A 21 0) ∧ h.mX32_rowOf (A 0 0) = some (A 22 0) := S.2.2.2.1
theorem vSh.ra {h : HpVR} {A : Nat → Int → Nat} {g : Nat → Nat × Int} {mc ac : Int} {tb : Int → Int} (S : vSh h A g mc ac tb) : h.mX32_answers (A 0 0) = some (A 23 0) ∧ h.mX32_foundBy (A 0 0) = some (A 24 0) ∧ h.mX32_firstBy (A 0 0) = some (A 25 0) ∧ h.mX32_lastBy (A 0 0) = some (A 26 0) := S.2.2.2.2.1
theorem vSh.tab {h : HpVR} {A : Nat → Int → Nat} {g : Nat → Nat × Int} {mc ac : Int} {tb : Int → Int} (S : vSh h A g mc ac tb) : ∀ t, 0 ≤ t → t < 4 → h.ar (A 4 0) t = some (A 1 t) ∧ h.mX33_cells (A 1 t) = some (A 2 t) ∧ h.mX33_keys (A 1 t) = some (A 3 t) := S.2.2.2.2.2.1
theorem vSh.map {h : HpVR} {A : Nat → Int → Nat} {g : Nat → Nat × Int} {mc ac : Int} {tb : Int → Int} (S : vSh h A g mc ac tb) : ∀ m, 0 ≤ m → m < mc → h.ar (A 5 0) m = some (A 6 m) ∧ h.mX81_table (A 6 m) = some (A 1 (tb m)) ∧ h.mX81_templates (A 6 m) = some (A 7 m) ∧ h.mX81_columns (A 6 m) = some (A 8 m) ∧ 0 ≤ tb m ∧ tb m < 4 := S.2.2.2.2.2.2.1
theorem vSh.atm {h : HpVR} {A : Nat → Int → Nat} {g : Nat → Nat × Int} {mc ac : Int} {tb : Int → Int} (S : vSh h A g mc ac tb) : ∀ k, 0 ≤ k → k < ac → h.ar (A 9 0) k = some (A 10 k) ∧ h.mX82_places (A 10 k) = some (A 11 k) := S.2.2.2.2.2.2.2.1
theorem vSh.uni {h : HpVR} {A : Nat → Int → Nat} {g : Nat → Nat × Int} {mc ac : Int} {tb : Int → Int} (S : vSh h A g mc ac tb) : ∀ u, 0 ≤ u → u < 150 → h.ar (A 15 0) u = some (A 16 u) ∧ h.mX34_mappings (A 16 u) = some (A 17 u) ∧ h.mX34_slots (A 16 u) = some (A 18 u) := S.2.2.2.2.2.2.2.2
theorem vSh.len {h : HpVR} {A : Nat → Int → Nat} {g : Nat → Nat × Int} {mc ac : Int} {tb : Int → Int} (S : vSh h A g mc ac tb) (i : Nat) (j : Int) (_ : i ≤ 26) (hl : vL i ≠ 0) (h0 : 0 ≤ j) (h1 : j < vN mc ac i) : h.an (A i j) = vL i := (S.lab i j h0 h1).2.2 hl
section
variable {h : HpVR} {A : Nat → Int → Nat} {g : Nat → Nat × Int} {mc ac : Int} {tb : Int → Int}
theorem vSh.kd (S : vSh h A g mc ac tb) (i : Nat) (j : Int) (_ : i ≤ 26) (h0 : 0 ≤ j) (h1 : j < vN mc ac i) : h.kd (A i j) = vK i := (S.lab i j h0 h1).2.1.1
theorem vSh.up (S : vSh h A g mc ac tb) {α : Type} {f : Nat → α} {v : α} (i i' : Nat) (j j' : Int) (h0 : 0 ≤ j ∧ j < vN mc ac i) (h1 : 0 ≤ j' ∧ j' < vN mc ac i') (hn : i ≠ i' ∨ j ≠ j') : va_up f (A i j) v (A i' j') = f (A i' j') :=
  va_up_ne _ _ (fun e => S.lab.ne h0 h1 hn e.symm)
/-- what the tables hold -/
def vRC (ai : Nat → Int → Int) (A : Nat → Int → Nat) (c : Int → Int) : Prop := ∀ t j, 0 ≤ t → t < 4 → 0 ≤ j → j < 60 → ai (A 2 t) j = c (60 * t + j)
def vRZ (z : Nat → Int) (A : Nat → Int → Nat) (sz : Int → Int) : Prop := ∀ t, 0 ≤ t → t < 4 → z (A 1 t) = sz t
def vRK (ai : Nat → Int → Int) (A : Nat → Int → Nat) (ky : Int → Int) : Prop := ∀ t j, 0 ≤ t → t < 4 → 0 ≤ j → j < 3 → ai (A 3 t) j = ky (3 * t + j)
variable {c sz ky : Int → Int} {t k : Int}
theorem CVR_isInB {P Q : Prop} {v n : Int} (h1 : 0 ≤ v → v < n → Q) (h0 : ¬ (0 ≤ v ∧ v < n) → P) : wpVR_X32_isIn (fun r => (r = 0 → P) ∧ (¬ r = 0 → Q)) v n := by
  unfold wpVR_X32_isIn
  refine ⟨fun a => ⟨fun _ => h0 (by omega), fun q => absurd rfl q⟩, fun a => ⟨fun b => ⟨fun _ => h0 (by omega), fun q => absurd rfl q⟩, fun b => ⟨fun q => absurd q (by decide), fun _ => h1 (by omega) (by omega)⟩⟩⟩
theorem CVR_cell {post : Int → Prop} {r : Int} (S : vSh h A g mc ac tb) (hc : vRC h.ai A c) (ht : 0 ≤ t ∧ t < 4) (hr : 0 ≤ r ∧ r < 20) (hk : 0 ≤ k ∧ k < 3) (hp : post (c (60 * t + 3 * r + k))) : uVR_X33_cell post h (A 1 t) r k := by
  unfold uVR_X33_cell wpVR_X33_cell
  have e := S.len 2 t (by decide) (by decide) ht.1 ht.2
  have e2 : h.an (A 2 t) = 60 := e
  refine kOn_of (S.tab t ht.1 ht.2).2.1 ⟨S.kd 2 t (by decide) ht.1 ht.2, by rw [e2]; omega, by omega, ?_⟩
  rw [hc t _ ht.1 ht.2 (by omega) (by omega), ← Int.add_assoc]
  exact hp
theorem CVR_hasB {P Q : Prop} {v n : Int} (S : vSh h A g mc ac tb) (hc : vRC h.ai A c) (ht : 0 ≤ t ∧ t < 4) (hk : 0 ≤ k ∧ k < 3) (hn : n ≤ 20) (h1 : vTh c n t k v → Q) (h0 : ¬ vTh c n t k v → P) : uVR_X33_has (fun r => (r = 0 → P) ∧ (¬ r = 0 → Q)) h (A 1 t) k v n := by
  unfold uVR_X33_has wpVR_X33_has
  refine wl2 _ (fun x i => (0 ≤ i) ∧ ((x = 0 ∧ ∀ r, 0 ≤ r → r < i → ¬ c (60 * t + 3 * r + k) = v) ∨ (x = 1 ∧ vTh c n t k v))) (fun x i => (n - i).toNat) ?_ 0 0 ⟨by omega, Or.inl ⟨rfl, fun r a b => by omega⟩⟩
  rintro x i ⟨hi, hx⟩ m ih
  rw [wVR_X33_has_6]
  refine ⟨fun z => ?_, fun z => ⟨fun e => ?_, fun e => ⟨by omega, fun _ e1 => ?_⟩⟩⟩
  · rcases hx with ⟨rfl, hx⟩ | ⟨rfl, hx⟩
    · exact ⟨Or.inl rfl, fun _ => h0 (fun ⟨r, a, b, e⟩ => hx r a (by omega) e), fun q => absurd rfl q⟩
    · exact ⟨Or.inr rfl, fun q => absurd q (by decide), fun _ => h1 hx⟩
  · have hx2 : ∀ r, 0 ≤ r → r < i → ¬ c (60 * t + 3 * r + k) = v := by
      rcases hx with ⟨_, hx⟩ | ⟨e2, _⟩
      · exact hx
      · omega
    refine CVR_cell S hc ht ⟨hi, by omega⟩ hk ⟨fun q => ⟨by omega, fun _ e1 => ?_⟩, fun q => ⟨by omega, fun _ e1 => ?_⟩⟩
    · subst e1
      exact ih _ _ ⟨by omega, Or.inr ⟨rfl, i, hi, by omega, q⟩⟩ (by omega)
    · subst e1
      refine ih _ _ ⟨by omega, Or.inl ⟨rfl, fun r a b => ?_⟩⟩ (by omega)
      by_cases hr : r = i
      · subst hr; exact q
      · exact hx2 r a (by omega)
  · subst e1
    rcases hx with ⟨e2, _⟩ | ⟨_, hx⟩
    · exact absurd e2 e
    · exact ih _ _ ⟨by omega, Or.inr ⟨rfl, hx⟩⟩ (by omega)
theorem CVR_repeatsB {P Q : Prop} (S : vSh h A g mc ac tb) (hc : vRC h.ai A c) (hz : vRZ h.mX33_size A sz) (ht : 0 ≤ t ∧ t < 4) (hk : 0 ≤ k ∧ k < 3) (hn : sz t ≤ 20) (h1 : vRp c (sz t) t k → Q) (h0 : ¬ vRp c (sz t) t k → P) : uVR_X33_repeats (fun r => (r = 0 → P) ∧ (¬ r = 0 → Q)) h (A 1 t) k := by
  unfold uVR_X33_repeats wpVR_X33_repeats
  refine wl2 _ (fun x i => (1 ≤ i) ∧ ((x = 0 ∧ ∀ r q, 0 ≤ q → q < r → r < i → ¬ c (60 * t + 3 * r + k) = c (60 * t + 3 * q + k)) ∨ (x = 1 ∧ vRp c (sz t) t k))) (fun x i => (sz t - i).toNat) ?_ 0 1 ⟨by omega, Or.inl ⟨rfl, fun r q a b d => by omega⟩⟩
  rintro x i ⟨hi, hx⟩ m ih
  rw [wVR_X33_repeats_4, hz t ht.1 ht.2]
  refine ⟨fun z => ?_, fun z => ⟨fun e => ?_, fun e => ⟨by omega, fun _ e1 => ?_⟩⟩⟩
  · rcases hx with ⟨rfl, hx⟩ | ⟨rfl, hx⟩
    · exact ⟨Or.inl rfl, fun _ => h0 (fun ⟨r, q, a, b, d, e⟩ => hx r q a b (by omega) e), fun q => absurd rfl q⟩
    · exact ⟨Or.inr rfl, fun q => absurd q (by decide), fun _ => h1 hx⟩
  · have hx2 : ∀ r q, 0 ≤ q → q < r → r < i → ¬ c (60 * t + 3 * r + k) = c (60 * t + 3 * q + k) := by
      rcases hx with ⟨_, hx⟩ | ⟨e2, _⟩
      · exact hx
      · omega
    refine CVR_cell S hc ht ⟨by omega, by omega⟩ hk (CVR_hasB S hc ht hk (by omega) (fun w => ⟨by omega, fun _ e1 => ?_⟩) (fun w => ⟨by omega, fun _ e1 => ?_⟩))
    · subst e1
      obtain ⟨q, a, b, d⟩ := w
      exact ih _ _ ⟨by omega, Or.inr ⟨rfl, i, q, a, b, by omega, d.symm⟩⟩ (by omega)
    · subst e1
      refine ih _ _ ⟨by omega, Or.inl ⟨rfl, fun r q a b d => ?_⟩⟩ (by omega)
      by_cases hr : r = i
      · subst hr; exact fun e => w ⟨q, a, b, e.symm⟩
      · exact hx2 r q a b (by omega)
  · subst e1
    rcases hx with ⟨e2, _⟩ | ⟨_, hx⟩
    · exact absurd e2 e
    · exact ih _ _ ⟨by omega, Or.inr ⟨rfl, hx⟩⟩ (by omega)
theorem CVR_key {post : Int → (Nat → Int → Int) → (Nat → Int) → Prop} {b : Int} (S : vSh h A g mc ac tb) (hc : vRC h.ai A c) (hz : vRZ h.mX33_size A sz) (hK : vRK h.ai A ky) (hs : ∀ t, 0 ≤ t → t < 4 → sz t ≤ 20) (hb : b = 0 ∨ b = 1)
    (hp0 : ¬ vKey c sz ky t k b = 1 → post (vKey c sz ky t k b) h.ai h.mX32_known)
    (hp1 : vKey c sz ky t k b = 1 → (0 ≤ t ∧ t < 4) → (0 ≤ k ∧ k < 3) → post 1 (va_up h.ai (A 3 t) (updI (h.ai (A 3 t)) k b)) (va_up h.mX32_known (A 0 0) 0)) : uVR_X32_key post h (A 0 0) t k b := by
  unfold uVR_X32_key wpVR_X32_key
  unfold vKey at hp0 hp1
  refine CVR_isInB (fun a1 a2 => CVR_isInB (fun b1 b2 => ?_) (fun z => ?_)) (fun z => ?_)
  · rw [if_pos ⟨⟨a1, a2⟩, b1, b2⟩] at hp0 hp1
    have e4 : h.an (A 4 0) = 4 := S.len 4 0 (by decide) (by decide) (by decide) z01
    have e3 : h.an (A 3 t) = 3 := S.len 3 t (by decide) (by decide) a1 a2
    have T := S.tab t a1 a2
    refine kOn_of S.rt.1 ⟨S.kd 4 0 (by decide) (by decide) z01, by rw [e4]; omega, fun _ e => ?_⟩
    subst e
    refine kOn_of T.1 ⟨S.kd 1 t (by decide) a1 a2, kOn_of T.2.2 ⟨S.kd 3 t (by decide) a1 a2, by rw [e3]; omega, ?_⟩⟩
    rw [hK t k a1 a2 b1 b2]
    refine ⟨fun z => ?_, fun z => ⟨fun z1 => ⟨hb, fun _ e1 _ e2 => ?_⟩, fun z1 => CVR_repeatsB S hc hz ⟨a1, a2⟩ ⟨b1, b2⟩ (hs t a1 a2) (fun w => ?_) (fun w => ⟨hb, fun _ e1 _ e2 => ?_⟩)⟩⟩
    · rw [if_pos z] at hp0; exact hp0 (by decide)
    · subst e1 e2
      rw [if_neg z, pif_f (fun w => by omega)] at hp1
      exact hp1 rfl ⟨a1, a2⟩ ⟨b1, b2⟩
    · rw [if_neg z, pif_t ⟨by omega, w⟩] at hp0
      exact hp0 (by decide)
    · subst e1 e2
      rw [if_neg z, pif_f (fun q => w q.2)] at hp1
      exact hp1 rfl ⟨a1, a2⟩ ⟨b1, b2⟩
  · rw [if_neg (fun q => z q.2)] at hp0; exact hp0 (by decide)
  · rw [if_neg (fun q => z q.1)] at hp0; exact hp0 (by decide)
end

/-! VirtualRewrite (room VR): rows -/
section
variable {h : HpVR} {A : Nat → Int → Nat} {g : Nat → Nat × Int} {mc ac : Int} {tb : Int → Int} {c sz ky : Int → Int} {t : Int}
theorem CVR_row102 {K : Int → Int → Prop} {j v : Int} (S : vSh h A g mc ac tb) (hc : vRC h.ai A c) (hz : vRZ h.mX33_size A sz) (ht : 0 ≤ t ∧ t < 4) (hj : 0 ≤ j ∧ j < 3) (hs : sz t ≤ 20) {r : Option Nat} (er : r = some (A 1 t)) (h1 : vTh c (sz t) t j v → K 1 (j + 1)) (h0 : ¬ vTh c (sz t) t j v → K 0 (j + 1)) :
    wVR_X32_row_102 K r j r j v h.kd h.an h.ai h.mX33_cells h.mX33_size := by
  unfold wVR_X32_row_102
  refine kOn_of er ⟨S.kd 1 t (by decide) ht.1 ht.2, kOn_of er ⟨S.kd 1 t (by decide) ht.1 ht.2, ?_⟩⟩
  rw [hz t ht.1 ht.2]
  refine CVR_hasB S hc ht hj hs (fun w => ⟨by omega, fun _ e => ?_⟩) (fun w => ⟨by omega, fun _ e => ?_⟩)
  · subst e; exact h1 w
  · subst e; exact h0 w
theorem CVR_row55 {K : Int → Prop} {a b d : Int} {B0 B1 B2 : Prop} (S : vSh h A g mc ac tb) (hc : vRC h.ai A c) (hz : vRZ h.mX33_size A sz) (hK : vRK h.ai A ky) (ht : 0 ≤ t ∧ t < 4) (hs' : sz t ≤ 20) {r : Option Nat} (er1 : r = some (A 1 t))
    (hB0 : (ky (3 * t) ≠ 0 ∧ vTh c (sz t) t 0 a) = B0) (hB1 : (ky (3 * t + 1) ≠ 0 ∧ vTh c (sz t) t 1 b) = B1) (hB2 : (ky (3 * t + 2) ≠ 0 ∧ vTh c (sz t) t 2 d) = B2) (k0 : ¬ (B0 ∨ B1 ∨ B2) → K 0) (k1 : B0 ∨ B1 ∨ B2 → K 1) :
    ∃ fu, wVR_X32_row_55 K a b d r h.kd h.an h.ai h.mX33_cells h.mX33_keys h.mX33_size fu 0 0 := by
  obtain ⟨a1, a2⟩ := ht
  have e3 : h.an (A 3 t) = 3 := S.len 3 t (by decide) (by decide) a1 a2
  have T := S.tab t a1 a2
  refine wl2 _ (fun x i => (0 ≤ i ∧ i ≤ 3) ∧ ((x = 0 ∧ (0 < i → ¬ B0) ∧ (1 < i → ¬ B1) ∧ (2 < i → ¬ B2)) ∨ (x = 1 ∧ (B0 ∨ B1 ∨ B2)))) (fun x i => (3 - i).toNat) ?_ 0 0 ⟨by omega, Or.inl ⟨rfl, fun w => by omega, fun w => by omega, fun w => by omega⟩⟩
  rintro x i ⟨hi, hx⟩ n ih
  rw [wVR_X32_row_55]
  refine ⟨fun z => ?_, fun z => ⟨fun e => ?_, fun e => ⟨by omega, fun _ e1 => ?_⟩⟩⟩
  · rcases hx with ⟨rfl, u, v, w⟩ | ⟨rfl, w⟩
    · exact k0 (fun q => q.elim (u (by omega)) (fun q => q.elim (v (by omega)) (w (by omega))))
    · exact k1 w
  · have hx2 : (0 < i → ¬ B0) ∧ (1 < i → ¬ B1) ∧ (2 < i → ¬ B2) := by
      rcases hx with ⟨_, u⟩ | ⟨e2, _⟩
      · exact u
      · omega
    obtain ⟨u0, u1, u2⟩ := hx2
    refine kOn_of er1 ⟨S.kd 1 t (by decide) a1 a2, kOn_of T.2.2 ⟨S.kd 3 t (by decide) a1 a2, by rw [e3]; omega, ?_⟩⟩
    rw [hK t i a1 a2 (by omega) (by omega)]
    have nxt0 : ∀ x, x = i + 1 → (i = 0 → ¬ B0) → (i = 1 → ¬ B1) → (i = 2 → ¬ B2) → wVR_X32_row_55 K a b d r h.kd h.an h.ai h.mX33_cells h.mX33_keys h.mX33_size n 0 x := by
      intro x ex w0 w1 w2
      subst ex
      refine ih _ _ ⟨by omega, Or.inl ⟨rfl, fun q => ?_, fun q => ?_, fun q => ?_⟩⟩ (by omega)
      · by_cases hq : i = 0
        · exact w0 hq
        · exact u0 (by omega)
      · by_cases hq : i = 1
        · exact w1 hq
        · exact u1 (by omega)
      · by_cases hq : i = 2
        · exact w2 hq
        · exact u2 (by omega)
    refine ⟨fun z1 => ⟨by omega, fun _ e1 => nxt0 _ e1 (fun q => ?_) (fun q => ?_) (fun q => ?_)⟩, fun z1 => ⟨fun z2 => ?_, fun z2 => ⟨fun z3 => ?_, fun z3 => ?_⟩⟩⟩
    · subst q; rw [← hB0]; exact fun y => y.1 (by rw [Int.add_zero] at z1; exact z1)
    · subst q; rw [← hB1]; exact fun y => y.1 z1
    · subst q; rw [← hB2]; exact fun y => y.1 z1
    · subst z2
      rw [Int.add_zero] at z1
      refine CVR_row102 S hc hz ⟨a1, a2⟩ (by decide) hs' er1 (fun w => ih _ _ ⟨by omega, Or.inr ⟨rfl, Or.inl ?_⟩⟩ (by omega)) (fun w => nxt0 _ rfl (fun _ => ?_) (fun q => by omega) (fun q => by omega))
      · rw [← hB0]; exact ⟨z1, w⟩
      · rw [← hB0]; exact fun y => w y.2
    · subst z3
      refine CVR_row102 S hc hz ⟨a1, a2⟩ (by decide) hs' er1 (fun w => ih _ _ ⟨by omega, Or.inr ⟨rfl, Or.inr (Or.inl ?_)⟩⟩ (by omega)) (fun w => nxt0 _ rfl (fun q => by omega) (fun _ => ?_) (fun q => by omega))
      · rw [← hB1]; exact ⟨z1, w⟩
      · rw [← hB1]; exact fun y => w y.2
    · have : i = 2 := by omega
      subst this
      refine CVR_row102 S hc hz ⟨a1, a2⟩ (by decide) hs' er1 (fun w => ih _ _ ⟨by omega, Or.inr ⟨rfl, Or.inr (Or.inr ?_)⟩⟩ (by omega)) (fun w => nxt0 _ rfl (fun q => by omega) (fun q => by omega) (fun _ => ?_))
      · rw [← hB2]; exact ⟨z1, w⟩
      · rw [← hB2]; exact fun y => w y.2
  · subst e1
    rcases hx with ⟨e2, _⟩ | ⟨_, w⟩
    · exact absurd e2 e
    · exact ih _ _ ⟨by omega, Or.inr ⟨rfl, w⟩⟩ (by omega)
theorem CVR_row {post : Int → (Nat → Int → Int) → (Nat → Int) → Prop} {a b d : Int} (S : vSh h A g mc ac tb) (hc : vRC h.ai A c) (hz : vRZ h.mX33_size A sz) (hK : vRK h.ai A ky) (hs : ∀ t, 0 ≤ t → t < 4 → 0 ≤ sz t ∧ sz t ≤ 20)
    (hp0 : ¬ 0 < vRow c sz ky t a b d → post (vRow c sz ky t a b d) h.ai h.mX33_size)
    (hp1 : 0 < vRow c sz ky t a b d → (0 ≤ t ∧ t < 4) → (0 ≤ sz t ∧ sz t < 20) → post (vRow c sz ky t a b d) (va_up h.ai (A 2 t) (updI (updI (updI (h.ai (A 2 t)) (3 * sz t) a) (3 * sz t + 1) b) (3 * sz t + 2) d)) (va_up h.mX33_size (A 1 t) (sz t + 1))) :
    uVR_X32_row post h (A 0 0) t a b d := by
  unfold uVR_X32_row wpVR_X32_row
  have no : ¬ ((0 ≤ t ∧ t < 4) ∧ (0 ≤ a ∧ a < 10000) ∧ (0 ≤ b ∧ b < 10000) ∧ (0 ≤ d ∧ d < 10000)) → post (-1) h.ai h.mX33_size := by
    intro w
    unfold vRow at hp0
    rw [if_neg w] at hp0
    exact hp0 (by decide)
  refine CVR_isInB (fun a1 a2 => CVR_isInB (fun b1 b2 => CVR_isInB (fun c1 c2 => CVR_isInB (fun d1 d2 => ?_) (fun z => no (by omega))) (fun z => no (by omega))) (fun z => no (by omega))) (fun z => no (by omega))
  have hs' := hs t a1 a2
  have e4 : h.an (A 4 0) = 4 := S.len 4 0 (by decide) (by decide) (by decide) z01
  have e3 : h.an (A 3 t) = 3 := S.len 3 t (by decide) (by decide) a1 a2
  have e2 : h.an (A 2 t) = 60 := S.len 2 t (by decide) (by decide) a1 a2
  have T := S.tab t a1 a2
  refine kOn_of S.rt.1 ⟨S.kd 4 0 (by decide) (by decide) z01, by rw [e4]; omega, fun r er => ?_⟩
  have er1 : r = some (A 1 t) := er.trans T.1
  unfold vRow at hp0 hp1
  rw [if_pos ⟨⟨a1, a2⟩, ⟨b1, b2⟩, ⟨c1, c2⟩, d1, d2⟩] at hp0 hp1
  generalize hB0 : (ky (3 * t) ≠ 0 ∧ vTh c (sz t) t 0 a) = B0 at hp0 hp1
  generalize hB1 : (ky (3 * t + 1) ≠ 0 ∧ vTh c (sz t) t 1 b) = B1 at hp0 hp1
  generalize hB2 : (ky (3 * t + 2) ≠ 0 ∧ vTh c (sz t) t 2 d) = B2 at hp0 hp1
  refine CVR_row55 S hc hz hK ⟨a1, a2⟩ hs'.2 er1 hB0 hB1 hB2 (fun hx2 => ⟨fun _ => ?_, fun q => absurd rfl q⟩) (fun hx2 => ⟨fun q => absurd q (by decide), fun _ => ?_⟩)
  · rw [pif_f hx2] at hp0 hp1
    refine kOn_of er1 ⟨S.kd 1 t (by decide) a1 a2, ?_⟩
    rw [hz t a1 a2]
    refine ⟨fun w => ?_, fun w => ?_⟩
    · rw [if_pos w] at hp0; exact hp0 (by decide)
    · rw [if_neg w] at hp1
      have hp1 := hp1 (by omega) ⟨a1, a2⟩ (by omega)
      refine kOn_of T.2.1 ⟨S.kd 2 t (by decide) a1 a2, by rw [e2]; omega, by omega, fun _ q1 => ⟨by rw [e2]; omega, by omega, fun _ q2 => ⟨by rw [e2]; omega, by omega, fun _ q3 => ⟨by omega, fun _ q4 _ q5 => ?_⟩⟩⟩⟩
      subst q1 q2 q3 q4 q5
      simp only [va_up_self, va_up_up]
      exact hp1
  · rw [pif_t hx2] at hp0
    exact hp0 (by decide)
/-- a table's cells without a row -/
def vCut (f : Int → Int) (i n : Int) : Int → Int := fun j => if 3 * i ≤ j ∧ j < n then f (j + 3) else f j
theorem CVR_tdrop {post : (Nat → Int → Int) → (Nat → Int) → Prop} {i : Int} (S : vSh h A g mc ac tb) (hz : vRZ h.mX33_size A sz) (ht : 0 ≤ t ∧ t < 4) (hs : sz t ≤ 20) (hi : 0 ≤ i ∧ i < sz t) (hp : post (va_up h.ai (A 2 t) (vCut (h.ai (A 2 t)) i (3 * (sz t - 1)))) (va_up h.mX33_size (A 1 t) (sz t - 1))) :
    uVR_X33_drop post h (A 1 t) i := by
  unfold uVR_X33_drop wpVR_X33_drop
  have e2 : h.an (A 2 t) = 60 := S.len 2 t (by decide) (by decide) ht.1 ht.2
  rw [hz t ht.1 ht.2]
  refine ⟨by omega, fun _ q1 _ q2 => ⟨by omega, fun _ q3 => ?_⟩⟩
  subst q1 q2 q3
  refine wl2 _ (fun x ai => (3 * i ≤ x ∧ x ≤ 3 * (sz t - 1)) ∧ ai = va_up h.ai (A 2 t) (vCut (h.ai (A 2 t)) i x)) (fun x ai => (3 * sz t - x).toNat) ?_ (3 * i) h.ai ⟨by omega, ?_⟩
  · rintro x ai ⟨hx, rfl⟩ n ih
    rw [wVR_X33_drop_14, va_up_self]
    refine ⟨by omega, fun z => ?_, fun z => kOn_of (S.tab t ht.1 ht.2).2.1 ⟨S.kd 2 t (by decide) ht.1 ht.2, by rw [e2]; omega, by omega, fun _ q1 => ⟨by rw [e2]; omega, fun _ q2 => ⟨by omega, fun _ q3 => ?_⟩⟩⟩⟩
    · have : x = 3 * (sz t - 1) := by omega
      subst this
      exact hp
    · subst q1 q2 q3
      refine ih _ _ ⟨by omega, ?_⟩ (by omega)
      rw [va_up_self, va_up_up]
      congr 1
      funext j
      unfold vCut updI
      dsimp only
      by_cases hj : j = x
      · rw [if_pos hj, if_neg (by omega), if_pos (by omega), hj]
      · rw [if_neg hj]
        by_cases hj2 : 3 * i ≤ j ∧ j < x
        · rw [if_pos hj2, if_pos (by omega)]
        · rw [if_neg hj2, if_neg (by omega)]
  · refine (va_up_id ?_).symm
    funext j
    unfold vCut
    rw [if_neg (by omega)]
theorem CVR_drop {post : Int → (Nat → Int → Int) → (Nat → Int) → Prop} {i : Int} (S : vSh h A g mc ac tb) (hz : vRZ h.mX33_size A sz) (hs : ∀ t, 0 ≤ t → t < 4 → 0 ≤ sz t ∧ sz t ≤ 20)
    (hp0 : ¬ ((0 ≤ t ∧ t < 4) ∧ (0 ≤ i ∧ i < sz t)) → post (-1) h.ai h.mX33_size)
    (hp1 : (0 ≤ t ∧ t < 4) → (0 ≤ i ∧ i < sz t) → post (sz t - 1) (va_up h.ai (A 2 t) (vCut (h.ai (A 2 t)) i (3 * (sz t - 1)))) (va_up h.mX33_size (A 1 t) (sz t - 1))) : uVR_X32_drop post h (A 0 0) t i := by
  unfold uVR_X32_drop wpVR_X32_drop
  refine CVR_isInB (fun a1 a2 => ?_) (fun z => hp0 (fun w => z w.1))
  have e4 : h.an (A 4 0) = 4 := S.len 4 0 (by decide) (by decide) (by decide) z01
  have T := S.tab t a1 a2
  have k1 : h.kd (A 1 t) = 2 := S.kd 1 t (by decide) a1 a2
  refine kOn_of S.rt.1 ⟨S.kd 4 0 (by decide) (by decide) z01, by rw [e4]; omega, fun r er => ?_⟩
  refine kOn_of (er.trans T.1) ⟨k1, ?_⟩
  rw [hz t a1 a2]
  refine CVR_isInB (fun b1 b2 => fun r2 er2 => kOn_of (er2.trans T.1) ⟨k1, CVR_tdrop S hz ⟨a1, a2⟩ (hs t a1 a2).2 ⟨b1, b2⟩ (fun r3 er3 => kOn_of (er3.trans T.1) ⟨k1, ?_⟩)⟩) (fun z => hp0 (fun w => z w.2))
  rw [va_up_self]
  exact hp1 ⟨a1, a2⟩ ⟨b1, b2⟩
end

/-! VirtualRewrite (room VR): what mappings say -/
/-- what the mappings hold -/
def vRM (ai : Nat → Int → Int) (pr : Nat → Int) (A : Nat → Int → Nat) (tb mp : Int → Int) (mc : Int) : Prop := ∀ m, 0 ≤ m → m < mc → tb m = mp (6 * m) ∧ pr (A 6 m) = mp (6 * m + 1) ∧ ∀ p, 0 ≤ p → p < 2 → ai (A 7 m) p = vTp mp m p ∧ ai (A 8 m) p = vCo mp m p
section
variable {h : HpVR} {A : Nat → Int → Nat} {g : Nat → Nat × Int} {mc ac : Int} {tb : Int → Int} {c sz ky mp : Int → Int}
theorem CVR_code {post : Int → Prop} {m r p : Int} (S : vSh h A g mc ac tb) (hc : vRC h.ai A c) (hM : vRM h.ai h.mX81_predicate A tb mp mc) (hO : vOK c sz mp mc) (hm : 0 ≤ m ∧ m < mc) (hr : 0 ≤ r ∧ r < sz (mp (6 * m))) (hp : 0 ≤ p ∧ p < 2) (hq : post (vCode c mp m r p)) : uVR_X81_code post h (A 6 m) r p := by
  unfold uVR_X81_code wpVR_X81_code
  obtain ⟨s1, s2, s3, s4, s5, s6⟩ := S.map m hm.1 hm.2
  obtain ⟨t1, t2, t3⟩ := hM m hm.1 hm.2
  obtain ⟨u1, u2⟩ := t3 p hp.1 hp.2
  obtain ⟨a, b, d⟩ := hO.2.2.1 m hm.1 hm.2
  obtain ⟨e, f⟩ := d p hp.1 hp.2
  have hz := hO.2.1 _ a.1 a.2
  have e7 : h.an (A 7 m) = 2 := S.len 7 m (by decide) (by decide) hm.1 hm.2
  have e8 : h.an (A 8 m) = 2 := S.len 8 m (by decide) (by decide) hm.1 hm.2
  have hcd := hO.code hm.1 hm.2 hr.1 hr.2 hp.1 hp.2
  refine kOn_of s3 ⟨S.kd 7 m (by decide) hm.1 hm.2, by rw [e7]; omega, kOn_of s4 ⟨S.kd 8 m (by decide) hm.1 hm.2, by rw [e8]; omega, kOn_of s2 ⟨S.kd 1 _ (by decide) s5 s6, ?_⟩⟩⟩
  rw [u1, u2]
  refine CVR_cell S hc ⟨s5, s6⟩ ⟨hr.1, by omega⟩ f ?_
  rw [t1]
  unfold vCode vCell at hq hcd
  exact ⟨by omega, hq⟩
/-- a row of mapping o says what row r of m says -/
def vSm (c mp : Int → Int) (o q m r : Int) : Prop := mp (6 * o + 1) = mp (6 * m + 1) ∧ vCode c mp o q 0 = vCode c mp m r 0 ∧ vCode c mp o q 1 = vCode c mp m r 1
theorem CVR_said56 {K : Int → Prop} {m o r n : Int} (S : vSh h A g mc ac tb) (hc : vRC h.ai A c) (hM : vRM h.ai h.mX81_predicate A tb mp mc) (hO : vOK c sz mp mc) (hm : 0 ≤ m ∧ m < mc) (ho : 0 ≤ o ∧ o < mc) (hr : 0 ≤ r ∧ r < sz (mp (6 * m))) (hn : 0 ≤ n ∧ n ≤ sz (mp (6 * o))) {x3 x6 : Option Nat} (e3 : x3 = some (A 6 m)) (e6 : x6 = some (A 6 o))
    (k1 : (∃ q, 0 ≤ q ∧ q < n ∧ vSm c mp o q m r) → K 1) (k0 : ¬ (∃ q, 0 ≤ q ∧ q < n ∧ vSm c mp o q m r) → K 0) : ∃ fu, wVR_X32_isSaid_56 K r x3 x6 n h.kd h.an h.ai h.mX33_cells h.mX81_table h.mX81_predicate h.mX81_templates h.mX81_columns fu 0 0 := by
  obtain ⟨a, b, d⟩ := hO.2.2.1 o ho.1 ho.2
  have hz := hO.2.1 _ a.1 a.2
  refine wl2 _ (fun x i => (0 ≤ i ∧ i ≤ n) ∧ ((x = 0 ∧ ∀ q, 0 ≤ q → q < i → ¬ vSm c mp o q m r) ∨ (x = 1 ∧ ∃ q, 0 ≤ q ∧ q < n ∧ vSm c mp o q m r))) (fun x i => (n - i).toNat) ?_ 0 0 ⟨by omega, Or.inl ⟨rfl, fun q a b => by omega⟩⟩
  rintro x i ⟨hi, hx⟩ f ih
  rw [wVR_X32_isSaid_56]
  have pm := (hM m hm.1 hm.2).2.1
  have po := (hM o ho.1 ho.2).2.1
  refine ⟨fun z => ?_, fun z => ⟨fun e => kOn_of e6 ⟨S.kd 6 o (by decide) ho.1 ho.2, kOn_of e3 ⟨S.kd 6 m (by decide) hm.1 hm.2, ?_⟩⟩, fun e => ?_⟩⟩
  · rcases hx with ⟨rfl, hx⟩ | ⟨rfl, hx⟩
    · exact k0 (fun ⟨q, u, v, w⟩ => hx q u (by omega) w)
    · exact k1 hx
  · have hx2 : ∀ q, 0 ≤ q → q < i → ¬ vSm c mp o q m r := by
      rcases hx with ⟨_, hx⟩ | ⟨e2, _⟩
      · exact hx
      · omega
    have nx : ∀ y, y = i + 1 → ¬ vSm c mp o i m r → wVR_X32_isSaid_56 K r x3 x6 n h.kd h.an h.ai h.mX33_cells h.mX81_table h.mX81_predicate h.mX81_templates h.mX81_columns f 0 y := by
      intro y ey w
      subst ey
      refine ih _ _ ⟨by omega, Or.inl ⟨rfl, fun q u v => ?_⟩⟩ (by omega)
      by_cases hq : q = i
      · subst hq; exact w
      · exact hx2 q u (by omega)
    rw [pm, po]
    refine ⟨fun z1 => CVR_code S hc hM hO ho (by omega) (by decide) (CVR_code S hc hM hO hm hr (by decide) ⟨fun z2 => CVR_code S hc hM hO ho (by omega) (by decide) (CVR_code S hc hM hO hm hr (by decide) ⟨fun z3 => ⟨by omega, fun _ e1 => ?_⟩, fun z3 => ⟨by omega, fun _ e1 => nx _ e1 (fun w => z3 w.2.2)⟩⟩), fun z2 => ⟨by omega, fun _ e1 => nx _ e1 (fun w => z2 w.2.1)⟩⟩), fun z1 => ?_⟩
    · subst e1
      exact ih _ _ ⟨by omega, Or.inr ⟨rfl, i, hi.1, by omega, z1, z2, z3⟩⟩ (by omega)
    · subst e
      exact k0 (fun ⟨q, u, v, w⟩ => z1 w.1)
  · rcases hx with ⟨e2, _⟩ | ⟨rfl, hx⟩
    · exact absurd e2 e
    · exact k1 hx
theorem CVR_isSaidB {P Q : Prop} {m r : Int} (S : vSh h A g mc ac tb) (hc : vRC h.ai A c) (hz : vRZ h.mX33_size A sz) (hM : vRM h.ai h.mX81_predicate A tb mp mc) (hO : vOK c sz mp mc) (hm : 0 ≤ m ∧ m < mc) (hr : 0 ≤ r ∧ r < sz (mp (6 * m))) (h1 : vSaid c sz mp mc m r → Q) (h0 : ¬ vSaid c sz mp mc m r → P) :
    uVR_X32_isSaid (fun r => (r = 0 → P) ∧ (¬ r = 0 → Q)) h (A 0 0) m r := by
  unfold uVR_X32_isSaid wpVR_X32_isSaid
  have hmc := hO.1
  have e5 : h.an (A 5 0) = 12 := S.len 5 0 (by decide) (by decide) (by decide) z01
  have k5 : h.kd (A 5 0) = 9 := S.kd 5 0 (by decide) (by decide) z01
  refine kOn_of S.rt.2.1 ⟨k5, by rw [e5]; omega, fun x3 e3 => ?_⟩
  have e3' := e3.trans (S.map m hm.1 hm.2).1
  refine wl2 _ (fun x k => (0 ≤ k ∧ k ≤ m + 1) ∧ ((x = 0 ∧ ∀ o q, 0 ≤ o → o < k → 0 ≤ q → q < sz (mp (6 * o)) → (o < m ∨ (o = m ∧ q < r)) → ¬ vSm c mp o q m r) ∨ (x = 1 ∧ vSaid c sz mp mc m r))) (fun x k => (m + 1 - k).toNat) ?_ 0 0 ⟨by omega, Or.inl ⟨rfl, fun o q a b => by omega⟩⟩
  rintro x k ⟨hk, hx⟩ f ih
  rw [wVR_X32_isSaid_13]
  refine ⟨fun z => ?_, fun z => ⟨fun e => kOn_of S.rt.2.1 ⟨k5, by rw [e5]; omega, fun r10 e10 => ⟨fun z1 => ?_, fun z1 => ?_⟩⟩, fun e => ?_⟩⟩
  · rcases hx with ⟨rfl, hx⟩ | ⟨rfl, hx⟩
    · exact ⟨Or.inl rfl, fun _ => h0 (fun ⟨o, q, u1, u2, u3, u4, u5, u6⟩ => hx o q u1 (by omega) u3 u4 u5 u6), fun q => absurd rfl q⟩
    · exact ⟨Or.inr rfl, fun q => absurd q (by decide), fun _ => h1 hx⟩
  · have hx2 : ∀ o q, 0 ≤ o → o < k → 0 ≤ q → q < sz (mp (6 * o)) → (o < m ∨ (o = m ∧ q < r)) → ¬ vSm c mp o q m r := by
      rcases hx with ⟨_, hx⟩ | ⟨e2, _⟩
      · exact hx
      · omega
    subst z1 e
    refine CVR_said56 S hc hM hO hm hm hr ⟨hr.1, by omega⟩ e3' (e10.trans (S.map k hm.1 hm.2).1) (fun w => ⟨by omega, fun _ e1 => ?_⟩) (fun w => ⟨by omega, fun _ e1 => ?_⟩)
    · subst e1
      obtain ⟨q, u, v, w⟩ := w
      exact ih _ _ ⟨by omega, Or.inr ⟨rfl, k, q, hm.1, hm.2, u, by omega, Or.inr ⟨rfl, v⟩, w⟩⟩ (by omega)
    · subst e1
      refine ih _ _ ⟨by omega, Or.inl ⟨rfl, fun o q u1 u2 u3 u4 u5 u6 => ?_⟩⟩ (by omega)
      by_cases ho : o = k
      · subst ho; exact w ⟨q, u3, by omega, u6⟩
      · exact hx2 o q u1 (by omega) u3 u4 u5 u6
  · have hx2 : ∀ o q, 0 ≤ o → o < k → 0 ≤ q → q < sz (mp (6 * o)) → (o < m ∨ (o = m ∧ q < r)) → ¬ vSm c mp o q m r := by
      rcases hx with ⟨_, hx⟩ | ⟨e2, _⟩
      · exact hx
      · omega
    have ho : 0 ≤ k ∧ k < mc := by omega
    obtain ⟨s1, s2, s3, s4, s5, s6⟩ := S.map k ho.1 ho.2
    obtain ⟨a, b, d⟩ := hO.2.2.1 k ho.1 ho.2
    have hz2 := hO.2.1 _ a.1 a.2
    refine kOn_of (e10.trans s1) ⟨S.kd 6 k (by decide) ho.1 ho.2, kOn_of s2 ⟨S.kd 1 _ (by decide) s5 s6, fun x7 e7 => ?_⟩⟩
    rw [hz _ s5 s6, (hM k ho.1 ho.2).1] at e7
    subst e7 e
    refine CVR_said56 S hc hM hO hm ho hr ⟨hz2.1, Int.le_refl _⟩ e3' (e10.trans s1) (fun w => ⟨by omega, fun _ e1 => ?_⟩) (fun w => ⟨by omega, fun _ e1 => ?_⟩)
    · subst e1
      obtain ⟨q, u, v, w⟩ := w
      exact ih _ _ ⟨by omega, Or.inr ⟨rfl, k, q, ho.1, ho.2, u, v, Or.inl (by omega), w⟩⟩ (by omega)
    · subst e1
      refine ih _ _ ⟨by omega, Or.inl ⟨rfl, fun o q u1 u2 u3 u4 u5 u6 => ?_⟩⟩ (by omega)
      by_cases ho2 : o = k
      · subst ho2; exact w ⟨q, u3, u4, u6⟩
      · exact hx2 o q u1 (by omega) u3 u4 u5 u6
  · rcases hx with ⟨e2, _⟩ | ⟨rfl, hx⟩
    · exact absurd e2 e
    · exact ⟨Or.inr rfl, fun q => absurd q (by decide), fun _ => h1 hx⟩
theorem CVR_triples {post : Int → Prop} (S : vSh h A g mc ac tb) (hc : vRC h.ai A c) (hz : vRZ h.mX33_size A sz) (hM : vRM h.ai h.mX81_predicate A tb mp mc) (hO : vOK c sz mp mc) (hn : h.mX32_mappingCount (A 0 0) = mc) (hp : post (vTri c sz mp mc mc.toNat)) : uVR_X32_triples post h (A 0 0) := by
  unfold uVR_X32_triples wpVR_X32_triples
  have hmc := hO.1
  have e5 : h.an (A 5 0) = 12 := S.len 5 0 (by decide) (by decide) (by decide) z01
  have k5 : h.kd (A 5 0) = 9 := S.kd 5 0 (by decide) (by decide) z01
  refine wl2 _ (fun x k => (0 ≤ k ∧ k ≤ mc) ∧ x = vTri c sz mp mc k.toNat) (fun x k => (mc - k).toNat) ?_ 0 0 ⟨by omega, rfl⟩
  rintro x k ⟨hk, ex⟩ f ih
  rw [wVR_X32_triples_4, hn]
  refine ⟨fun z => ?_, fun z => ?_⟩
  · have : k = mc := by omega
    subst this; subst ex; exact hp
  · have ho : 0 ≤ k ∧ k < mc := by omega
    obtain ⟨s1, s2, s3, s4, s5, s6⟩ := S.map k ho.1 ho.2
    obtain ⟨a, b, d⟩ := hO.2.2.1 k ho.1 ho.2
    have hz2 := hO.2.1 _ a.1 a.2
    have hT := vTri_b hO k.toNat (by omega)
    have et := (hM k ho.1 ho.2).1
    refine wl2 _ (fun x r => (0 ≤ r ∧ r ≤ sz (mp (6 * k))) ∧ x = vTri c sz mp mc k.toNat + vTri1 c sz mp mc k r.toNat) (fun x r => (sz (mp (6 * k)) - r).toNat) ?_ x 0 ⟨by omega, by rw [ex]; simp [vTri1, cntI]⟩
    rintro y r ⟨hr, ey⟩ f2 ih2
    have hb := cntI_b (fun r => ¬ vSaid c sz mp mc k r) r.toNat
    have ey2 : y = vTri c sz mp mc k.toNat + cntI (fun r => ¬ vSaid c sz mp mc k r) r.toNat := ey
    rw [wVR_X32_triples_14]
    refine kOn_of S.rt.2.1 ⟨k5, by rw [e5]; omega, fun r5 e5 => kOn_of (e5.trans s1) ⟨S.kd 6 k (by decide) ho.1 ho.2, kOn_of s2 ⟨S.kd 1 _ (by decide) s5 s6, ?_⟩⟩⟩
    rw [hz _ s5 s6, et]
    refine ⟨fun z1 => ⟨by omega, fun _ e1 => ?_⟩, fun z1 => CVR_isSaidB S hc hz hM hO ho ⟨hr.1, by omega⟩ (fun w => ⟨by omega, fun _ e1 => ⟨by omega, fun _ e2 => ?_⟩⟩) (fun w => ⟨by omega, fun _ e1 => ⟨by omega, fun _ e2 => ?_⟩⟩)⟩
    · subst e1
      refine ih _ _ ⟨by omega, ?_⟩ (by omega)
      have : r = sz (mp (6 * k)) := by omega
      rw [show (k + 1).toNat = k.toNat + 1 by omega, vTri, show ((k.toNat : Nat) : Int) = k by omega, ey, this]
    · subst e1 e2
      refine ih2 _ _ ⟨by omega, ?_⟩ (by omega)
      unfold vTri1
      rw [cntI_f hr.1 (fun q => q w), ey2]; omega
    · subst e1 e2
      refine ih2 _ _ ⟨by omega, ?_⟩ (by omega)
      unfold vTri1
      rw [cntI_t hr.1 w, ey2]; omega
end

/-! VirtualRewrite (room VR): a new mapping, a new atom, spans -/
theorem vN_m {mc ac : Int} {i : Nat} (h6 : i ≠ 6) (h7 : i ≠ 7) (h8 : i ≠ 8) : vN (mc + 1) ac i = vN mc ac i := by
  unfold vN
  split <;> first | rfl | exact absurd rfl h6 | exact absurd rfl h7 | exact absurd rfl h8
theorem vN_a {mc ac : Int} {i : Nat} (h6 : i ≠ 10) (h7 : i ≠ 11) : vN mc (ac + 1) i = vN mc ac i := by
  unfold vN
  split <;> first | rfl | exact absurd rfl h6 | exact absurd rfl h7
/-- what was there is there still -/
def vFr (ai ai' : Nat → Int → Int) (A A' : Nat → Int → Nat) (N : Nat → Int) : Prop := ∀ i j, 0 ≤ j → j < N i → A' i j = A i j ∧ ai' (A i j) = ai (A i j)
section
variable {h : HpVR} {A : Nat → Int → Nat} {g : Nat → Nat × Int} {mc ac : Int} {tb : Int → Int} {c sz ky mp : Int → Int}
def vHm (h : HpVR) (kd an : Nat → Nat) (ai : Nat → Int → Int) (ar : Nat → Int → Option Nat) (cn kn : Nat → Int) (ta : Nat → Option Nat) (pr : Nat → Int) (te co : Nat → Option Nat) : HpVR :=
  (((((((((h.s_kd kd).s_an an).s_ai ai).s_ar ar).s_mX32_mappingCount cn).s_mX32_known kn).s_mX81_table ta).s_mX81_predicate pr).s_mX81_templates te).s_mX81_columns co
theorem CVR_mapping {MC MS : Nat} {post : Int → (Nat → Nat) → (Nat → Nat) → (Nat → Int → Int) → (Nat → Int → Option Nat) → (Nat → Int) → (Nat → Int) → (Nat → Option Nat) → (Nat → Int) → (Nat → Option Nat) → (Nat → Option Nat) → Prop} {t p s k o d : Int}
    (S : vSh h A g mc ac tb) (hm : 0 ≤ mc ∧ mc ≤ 12) (hn : h.mX32_mappingCount (A 0 0) = mc) (hC : 3 ≤ MC) (hS : 8 ≤ MS)
    (hp0 : ¬ (vMapG mc t p s k o d ∧ mc ≠ 12) → post (vMap mc t p s k o d) h.kd h.an h.ai h.ar h.mX32_mappingCount h.mX32_known h.mX81_table h.mX81_predicate h.mX81_templates h.mX81_columns)
    (hp1 : vMapG mc t p s k o d → mc ≠ 12 → ∀ kd an ai ar cn kn ta pr te co A' g', vSh (vHm h kd an ai ar cn kn ta pr te co) A' g' (mc + 1) ac (updI tb mc t) → vFr h.ai ai A A' (vN mc ac) → cn (A 0 0) = mc + 1 → kn (A 0 0) = 0 →
      pr (A' 6 mc) = p → (∀ m, 0 ≤ m → m < mc → pr (A 6 m) = h.mX81_predicate (A 6 m)) → (ai (A' 7 mc) 0 = s ∧ ai (A' 7 mc) 1 = o ∧ ai (A' 8 mc) 0 = k ∧ ai (A' 8 mc) 1 = d) → post mc kd an ai ar cn kn ta pr te co) :
    uVR_X32_mapping MC MS post h (A 0 0) t p s k o d := by
  unfold uVR_X32_mapping wpVR_X32_mapping
  have no : ¬ vMapG mc t p s k o d → wVR_X32_mapping_59 MC MS post (A 0 0) t p s k o d 0 h.kd h.an h.ai h.ar h.mX32_tables h.mX32_mappings h.mX32_mappingCount h.mX32_known h.mX81_table h.mX81_predicate h.mX81_templates h.mX81_columns 0 0 := by
    intro w
    unfold wVR_X32_mapping_59
    have := hp0 (fun q => w q.1)
    unfold vMap at this
    rw [pif_f w] at this
    exact ⟨fun _ => ⟨by omega, by omega, this⟩, fun q => absurd rfl q⟩
  refine ⟨by omega, CVR_isInB (fun a1 a2 => ⟨by omega, CVR_isInB (fun b1 b2 => ⟨by omega, CVR_isInB (fun c1 c2 => ⟨by omega, CVR_isInB (fun d1 d2 => ⟨by omega, CVR_isInB (fun f1 f2 => ⟨by omega, CVR_isInB (fun g1 g2 => ?_) (fun z => no (fun w => z w.2.2.2.2.2))⟩) (fun z => no (fun w => z w.2.2.2.2.1))⟩) (fun z => no (fun w => z w.2.2.2.1))⟩) (fun z => no (fun w => z w.2.2.1))⟩) (fun z => no (fun w => z w.2.1))⟩) (fun z => no (fun w => z w.1))⟩
  have hG : vMapG mc t p s k o d := ⟨⟨a1, a2⟩, ⟨b1, b2⟩, ⟨c1, c2⟩, ⟨d1, d2⟩, ⟨f1, f2⟩, g1, g2⟩
  unfold wVR_X32_mapping_59
  refine ⟨fun q => absurd q (by decide), fun _ => ?_⟩
  rw [hn]
  refine ⟨fun e => ?_, fun e => ⟨by omega, fun q6 hq6 ta7 i1 pr8 i2 te9 i3 co10 i4 => ?_⟩⟩
  · have := hp0 (fun q => q.2 e)
    unfold vMap at this
    rw [pif_t hG, if_pos e] at this
    exact ⟨by omega, by omega, this⟩
  have LA := S.lab
  have n6 : ∀ {i : Nat} {j : Int}, 0 ≤ j → j < vN mc ac i → A i j ≠ q6 := fun a b => LA.fresh hq6 a b
  have e4 : h.an (A 4 0) = 4 := S.len 4 0 (by decide) (by decide) (by decide) z01
  have e5 : h.an (A 5 0) = 12 := S.len 5 0 (by decide) (by decide) (by decide) z01
  have k4 : h.kd (A 4 0) = 8 := S.kd 4 0 (by decide) (by decide) z01
  have k5 : h.kd (A 5 0) = 9 := S.kd 5 0 (by decide) (by decide) z01
  refine kOn_of S.rt.1 ⟨by rw [va_up_ne _ _ (n6 (by decide) z01)]; exact k4, by rw [e4]; omega, fun r15 e15 => ⟨2, 4, by omega, ?_⟩⟩
  have e15' := e15.trans (S.tab t a1 a2).1
  have L1 := LA.new hq6 6 (an' := h.an) (show (0 : Int) ≤ vN mc ac 6 from hm.1) (by decide) (fun b _ => rfl) (fun q => absurd rfl q)
  unfold wpVR_X81_init
  refine ⟨by omega, fun q1 hq1 _ j1 te4 j2 => ⟨by omega, fun q5 hq5 _ j3 co9 j4 ta10 j5 pr11 j6 => ⟨by omega, by omega, fun _ => ?_⟩⟩⟩
  have L2 := L1.new hq1 7 (an' := va_up h.an q1 2) (show (0 : Int) ≤ nUp (vN mc ac) 6 7 from hm.1) (by decide) (fun b hb => va_up_ne _ _ hb) (fun _ => va_up_self _ _ _)
  have L3 := L2.new hq5 8 (an' := va_up (va_up h.an q1 2) q5 2) (show (0 : Int) ≤ nUp (nUp (vN mc ac) 6) 7 8 from hm.1) (by decide) (fun b hb => va_up_ne _ _ hb) (fun _ => va_up_self _ _ _)
  -- the three are new
  have x16 : q1 ≠ q6 := fun w => by rw [w, va_up_self] at hq1; exact absurd hq1 (by decide)
  have hq1' : h.kd q1 = 0 := by rw [va_up_ne _ _ x16] at hq1; exact hq1
  have x51 : q5 ≠ q1 := fun w => by rw [w, va_up_self] at hq5; exact absurd hq5 (by decide)
  have x56 : q5 ≠ q6 := fun w => by rw [va_up_ne _ _ x51, w, va_up_self] at hq5; exact absurd hq5 (by decide)
  have hq5' : h.kd q5 = 0 := by rw [va_up_ne _ _ x51, va_up_ne _ _ x56] at hq5; exact hq5
  have n1 : ∀ {i : Nat} {j : Int}, 0 ≤ j → j < vN mc ac i → A i j ≠ q1 := fun a b => LA.fresh hq1' a b
  have n5 : ∀ {i : Nat} {j : Int}, 0 ≤ j → j < vN mc ac i → A i j ≠ q5 := fun a b => LA.fresh hq5' a b
  have kdq : ∀ b, b ≠ q6 → b ≠ q1 → b ≠ q5 → va_up (va_up (va_up h.kd q6 4) q1 6) q5 6 b = h.kd b := fun b u v w => by rw [va_up_ne _ _ w, va_up_ne _ _ v, va_up_ne _ _ u]
  subst i1 i2 i3 i4 j1 j2 j3 j4 j5 j6
  refine kOn_of (va_up_self _ _ _) ⟨by rw [va_up_ne _ _ x51.symm, va_up_self], by rw [va_up_ne _ _ x51.symm, va_up_self]; decide, fun _ u1 => ⟨by rw [va_up_ne _ _ x51.symm, va_up_self]; decide, fun _ u2 => kOn_of (va_up_self _ _ _) ⟨va_up_self _ _ _, by rw [va_up_self]; decide, fun _ u3 => ⟨by rw [va_up_self]; decide, fun ai' u4 => ?_⟩⟩⟩⟩
  refine kOn_of S.rt.2.1 ⟨by rw [kdq _ (n6 (by decide) z01) (n1 (by decide) z01) (n5 (by decide) z01)]; exact k5, by rw [va_up_ne _ _ (n5 (by decide) z01), va_up_ne _ _ (n1 (by decide) z01), e5]; omega, fun ar' u5 => ⟨by omega, fun _ u6 cn u7 kn u8 => ?_⟩⟩
  subst u6
  have ecn : cn (A 0 0) = mc + 1 := by rw [u7, va_up_self]
  have ekn : kn (A 0 0) = 0 := by rw [u8, va_up_self]
  rw [ecn, Int.add_sub_cancel]
  refine ⟨by omega, by omega, by omega, ?_⟩
  have ai1 : ai' q1 = updI (updI (fun _ => 0) 0 s) 1 o := by
    subst u1 u2 u3 u4
    simp only [va_up_self, va_up_ne _ _ x51.symm, va_up_ne _ _ x51]
  have ai5 : ai' q5 = updI (updI (fun _ => 0) 0 k) 1 d := by
    subst u1 u2 u3 u4
    simp only [va_up_self, va_up_ne _ _ x51.symm, va_up_ne _ _ x51]
  have aio : ∀ b, b ≠ q1 → b ≠ q5 → ai' b = h.ai b := by
    intro b v w
    subst u1 u2 u3 u4
    simp only [va_up_ne _ _ v, va_up_ne _ _ w]
  have fr : ∀ i j, 0 ≤ j → j < vN mc ac i → aUp (aUp (aUp A 6 mc q6) 7 mc q1) 8 mc q5 i j = A i j := by
    intro i j u v
    have y6 : ¬ (i = 6 ∧ j = mc) := fun w => by obtain ⟨rfl, rfl⟩ := w; exact absurd v (Int.lt_irrefl _)
    have y7 : ¬ (i = 7 ∧ j = mc) := fun w => by obtain ⟨rfl, rfl⟩ := w; exact absurd v (Int.lt_irrefl _)
    have y8 : ¬ (i = 8 ∧ j = mc) := fun w => by obtain ⟨rfl, rfl⟩ := w; exact absurd v (Int.lt_irrefl _)
    unfold aUp
    rw [if_neg y8, if_neg y7, if_neg y6]
  have A6 : aUp (aUp (aUp A 6 mc q6) 7 mc q1) 8 mc q5 6 mc = q6 := by rw [aUp_i (by decide), aUp_i (by decide), aUp_s]
  have A7 : aUp (aUp (aUp A 6 mc q6) 7 mc q1) 8 mc q5 7 mc = q1 := by rw [aUp_i (by decide), aUp_s]
  have A8 : aUp (aUp (aUp A 6 mc q6) 7 mc q1) 8 mc q5 8 mc = q5 := aUp_s
  have L4 : Lab vK vL (va_up (va_up (va_up h.kd q6 4) q1 6) q5 6) (va_up (va_up h.an q1 2) q5 2) (aUp (aUp (aUp A 6 mc q6) 7 mc q1) 8 mc q5) (gUp (gUp (gUp g q6 6 mc) q1 7 mc) q5 8 mc) (vN (mc + 1) ac) := by
    refine Lab.mono L3 (fun i => ?_)
    unfold nUp
    by_cases y6 : i = 6
    · subst y6; exact Int.le_refl _
    · by_cases y7 : i = 7
      · subst y7; exact Int.le_refl _
      · by_cases y8 : i = 8
        · subst y8; exact Int.le_refl _
        · rw [if_neg y8, if_neg y7, if_neg y6, vN_m y6 y7 y8]; exact Int.le_refl _
  clear L1 L2 L3
  generalize hA' : aUp (aUp (aUp A 6 mc q6) 7 mc q1) 8 mc q5 = A' at *
  generalize gUp (gUp (gUp g q6 6 mc) q1 7 mc) q5 8 mc = g' at *
  have f0 := fr 0 0 (by decide) z01
  refine hp1 hG e _ _ ai' ar' cn kn _ _ _ _ A' g' ⟨L4, ?_, ?_, ?_, ?_, ?_, ?_, ?_, ?_⟩ (fun i j u v => ⟨fr i j u v, aio _ (n1 u v) (n5 u v)⟩) ecn ekn ?_ ?_ ?_
  · show h.mX32_tables (A' 0 0) = some (A' 4 0) ∧ h.mX32_mappings (A' 0 0) = some (A' 5 0) ∧ h.mX32_atoms (A' 0 0) = some (A' 9 0) ∧ h.mX32_unions (A' 0 0) = some (A' 15 0)
    rw [f0, fr 4 0 (by decide) z01, fr 5 0 (by decide) z01, fr 9 0 (by decide) z01, fr 15 0 (by decide) z01]; exact S.rt
  · show h.mX32_spanOf (A' 0 0) = some (A' 12 0) ∧ h.mX32_spanFrom (A' 0 0) = some (A' 13 0) ∧ h.mX32_spanTo (A' 0 0) = some (A' 14 0)
    rw [f0, fr 12 0 (by decide) z01, fr 13 0 (by decide) z01, fr 14 0 (by decide) z01]; exact S.rs
  · show h.mX32_chosen (A' 0 0) = some (A' 19 0) ∧ h.mX32_kinds (A' 0 0) = some (A' 20 0) ∧ h.mX32_given (A' 0 0) = some (A' 21 0) ∧ h.mX32_rowOf (A' 0 0) = some (A' 22 0)
    rw [f0, fr 19 0 (by decide) z01, fr 20 0 (by decide) z01, fr 21 0 (by decide) z01, fr 22 0 (by decide) z01]; exact S.rw
  · show h.mX32_answers (A' 0 0) = some (A' 23 0) ∧ h.mX32_foundBy (A' 0 0) = some (A' 24 0) ∧ h.mX32_firstBy (A' 0 0) = some (A' 25 0) ∧ h.mX32_lastBy (A' 0 0) = some (A' 26 0)
    rw [f0, fr 23 0 (by decide) z01, fr 24 0 (by decide) z01, fr 25 0 (by decide) z01, fr 26 0 (by decide) z01]; exact S.ra
  · intro t u v
    show ar' (A' 4 0) t = some (A' 1 t) ∧ h.mX33_cells (A' 1 t) = some (A' 2 t) ∧ h.mX33_keys (A' 1 t) = some (A' 3 t)
    rw [fr 4 0 (by decide) z01, fr 1 t u v, fr 2 t u v, fr 3 t u v, u5, S.up 5 4 0 0 ⟨by decide, z01⟩ ⟨by decide, z01⟩ (Or.inl (by decide))]; exact S.tab t u v
  · intro m u v
    show ar' (A' 5 0) m = some (A' 6 m) ∧ va_up (va_up h.mX81_table q6 none) q6 r15 (A' 6 m) = some (A' 1 (updI tb mc t m)) ∧ va_up (va_up h.mX81_templates q6 none) q6 (some q1) (A' 6 m) = some (A' 7 m) ∧ va_up (va_up h.mX81_columns q6 none) q6 (some q5) (A' 6 m) = some (A' 8 m) ∧ 0 ≤ updI tb mc t m ∧ updI tb mc t m < 4
    rw [fr 5 0 (by decide) z01, u5, va_up_self, va_up_up, va_up_up, va_up_up]
    by_cases hmm : m = mc
    · subst hmm
      rw [A6, A7, A8, updI_s, updI_s, va_up_self, va_up_self, va_up_self, fr 1 t a1 a2]
      exact ⟨rfl, e15', rfl, rfl, a1, a2⟩
    · have v' : m < mc := by omega
      rw [updI_n hmm, updI_n hmm, fr 6 m u v', fr 7 m u v', fr 8 m u v', va_up_ne _ _ (n6 (i := 6) u v'), va_up_ne _ _ (n6 (i := 6) u v'), va_up_ne _ _ (n6 (i := 6) u v')]
      have M := S.map m u v'
      rw [fr 1 (tb m) M.2.2.2.2.1 M.2.2.2.2.2]
      exact M
  · intro m u v
    show ar' (A' 9 0) m = some (A' 10 m) ∧ h.mX82_places (A' 10 m) = some (A' 11 m)
    rw [fr 9 0 (by decide) z01, fr 10 m u v, fr 11 m u v, u5, S.up 5 9 0 0 ⟨by decide, z01⟩ ⟨by decide, z01⟩ (Or.inl (by decide))]; exact S.atm m u v
  · intro m u v
    show ar' (A' 15 0) m = some (A' 16 m) ∧ h.mX34_mappings (A' 16 m) = some (A' 17 m) ∧ h.mX34_slots (A' 16 m) = some (A' 18 m)
    rw [fr 15 0 (by decide) z01, fr 16 m u v, fr 17 m u v, fr 18 m u v, u5, S.up 5 15 0 0 ⟨by decide, z01⟩ ⟨by decide, z01⟩ (Or.inl (by decide))]; exact S.uni m u v
  · rw [A6, va_up_self]
  · intro m u v
    rw [va_up_ne _ _ (n6 (i := 6) u v), va_up_ne _ _ (n6 (i := 6) u v)]
  · rw [A7, A8, ai1, ai5]
    exact ⟨rfl, rfl, rfl, rfl⟩
end

/-! VirtualRewrite (room VR): a new atom, spans -/
section
variable {h : HpVR} {A : Nat → Int → Nat} {g : Nat → Nat × Int} {mc ac : Int} {tb : Int → Int} {c sz ky mp : Int → Int}
theorem CVR_isPlaceB {P Q : Prop} {v : Int} (h1 : -6 ≤ v → v < 60000 → Q) (h0 : ¬ (-6 ≤ v ∧ v < 60000) → P) : wpVR_X32_isPlace (fun r => (r = 0 → P) ∧ (¬ r = 0 → Q)) v := by
  unfold wpVR_X32_isPlace
  refine ⟨fun a => ⟨fun _ => h0 (by omega), fun q => absurd rfl q⟩, fun a => ⟨fun b => ⟨fun _ => h0 (by omega), fun q => absurd rfl q⟩, fun b => ⟨fun q => absurd q (by decide), fun _ => h1 (by omega) (by omega)⟩⟩⟩
def vHa (h : HpVR) (kd an : Nat → Nat) (ai : Nat → Int → Int) (ar : Nat → Int → Option Nat) (cn kn pr : Nat → Int) (pl : Nat → Option Nat) : HpVR :=
  (((((((h.s_kd kd).s_an an).s_ai ai).s_ar ar).s_mX32_atomCount cn).s_mX32_known kn).s_mX82_predicate pr).s_mX82_places pl
theorem CVR_atom {MC MS : Nat} {post : Int → (Nat → Nat) → (Nat → Nat) → (Nat → Int → Int) → (Nat → Int → Option Nat) → (Nat → Int) → (Nat → Int) → (Nat → Int) → (Nat → Option Nat) → Prop} {p s o : Int}
    (S : vSh h A g mc ac tb) (ha : 0 ≤ ac ∧ ac ≤ 4) (hn : h.mX32_atomCount (A 0 0) = ac) (hC : 2 ≤ MC) (hS : 4 ≤ MS)
    (hp0 : ¬ (vAtomG p s o ∧ ac ≠ 4) → post (vAtom ac p s o) h.kd h.an h.ai h.ar h.mX32_atomCount h.mX32_known h.mX82_predicate h.mX82_places)
    (hp1 : vAtomG p s o → ac ≠ 4 → ∀ kd an ai ar cn kn pr pl A' g', vSh (vHa h kd an ai ar cn kn pr pl) A' g' mc (ac + 1) tb → vFr h.ai ai A A' (vN mc ac) → cn (A 0 0) = ac + 1 → kn (A 0 0) = 0 →
      pr (A' 10 ac) = p → (∀ m, 0 ≤ m → m < ac → pr (A 10 m) = h.mX82_predicate (A 10 m)) → (ai (A' 11 ac) 0 = s ∧ ai (A' 11 ac) 1 = o) → post (ac + 1) kd an ai ar cn kn pr pl) :
    uVR_X32_atom MC MS post h (A 0 0) p s o := by
  unfold uVR_X32_atom wpVR_X32_atom
  have no : ¬ vAtomG p s o → (0 ≤ MC ∧ 0 ≤ MS ∧ post (-1) h.kd h.an h.ai h.ar h.mX32_atomCount h.mX32_known h.mX82_predicate h.mX82_places) := by
    intro w
    have := hp0 (fun q => w q.1)
    unfold vAtom at this
    rw [pif_f w] at this
    exact ⟨by omega, by omega, this⟩
  refine ⟨by omega, CVR_isInB (fun a1 a2 => ⟨by omega, CVR_isPlaceB (fun b1 b2 => ⟨by omega, CVR_isPlaceB (fun c1 c2 => ?_) (fun z => no (fun w => z w.2.2))⟩) (fun z => no (fun w => z w.2.1))⟩) (fun z => no (fun w => z w.1))⟩
  have hG : vAtomG p s o := ⟨⟨a1, a2⟩, ⟨b1, b2⟩, c1, c2⟩
  rw [hn]
  refine ⟨fun e => ?_, fun e => ⟨by omega, fun q6 hq6 pr8 i1 pl9 i2 => ⟨1, 2, by omega, ?_⟩⟩⟩
  · have := hp0 (fun q => q.2 e)
    unfold vAtom at this
    rw [pif_t hG, if_pos e] at this
    exact ⟨by omega, by omega, this⟩
  have LA := S.lab
  have n6 : ∀ {i : Nat} {j : Int}, 0 ≤ j → j < vN mc ac i → A i j ≠ q6 := fun a b => LA.fresh hq6 a b
  have e9 : h.an (A 9 0) = 4 := S.len 9 0 (by decide) (by decide) (by decide) z01
  have k9 : h.kd (A 9 0) = 10 := S.kd 9 0 (by decide) (by decide) z01
  have L1 := LA.new hq6 10 (an' := h.an) (show (0 : Int) ≤ vN mc ac 10 from ha.1) (by decide) (fun b _ => rfl) (fun q => absurd rfl q)
  unfold wpVR_X82_init
  refine ⟨by omega, fun q1 hq1 _ j1 pl4 j2 pr5 j3 => ?_⟩
  have L2 := L1.new hq1 11 (an' := va_up h.an q1 2) (show (0 : Int) ≤ nUp (vN mc ac) 10 11 from ha.1) (by decide) (fun b hb => va_up_ne _ _ hb) (fun _ => va_up_self _ _ _)
  have x16 : q1 ≠ q6 := fun w => by rw [w, va_up_self] at hq1; exact absurd hq1 (by decide)
  have hq1' : h.kd q1 = 0 := by rw [va_up_ne _ _ x16] at hq1; exact hq1
  have n1 : ∀ {i : Nat} {j : Int}, 0 ≤ j → j < vN mc ac i → A i j ≠ q1 := fun a b => LA.fresh hq1' a b
  subst i1 i2 j1 j2 j3
  refine kOn_of (va_up_self _ _ _) ⟨va_up_self _ _ _, by rw [va_up_self]; decide, fun _ u1 => ⟨by rw [va_up_self]; decide, fun ai' u2 => ⟨by omega, by omega, fun _ => ?_⟩⟩⟩
  refine kOn_of S.rt.2.2.1 ⟨by rw [va_up_ne _ _ (n1 (by decide) z01), va_up_ne _ _ (n6 (by decide) z01)]; exact k9, by rw [va_up_ne _ _ (n1 (by decide) z01), e9]; omega, fun ar' u5 => ⟨by omega, fun _ u6 cn u7 kn u8 => ?_⟩⟩
  subst u6
  have ecn : cn (A 0 0) = ac + 1 := by rw [u7, va_up_self]
  have ekn : kn (A 0 0) = 0 := by rw [u8, va_up_self]
  rw [ecn]
  refine ⟨by omega, by omega, ?_⟩
  have ai1 : ai' q1 = updI (updI (fun _ => 0) 0 s) 1 o := by
    subst u1 u2
    simp only [va_up_self]
  have aio : ∀ b, b ≠ q1 → ai' b = h.ai b := by
    intro b v
    subst u1 u2
    simp only [va_up_ne _ _ v]
  have fr : ∀ i j, 0 ≤ j → j < vN mc ac i → aUp (aUp A 10 ac q6) 11 ac q1 i j = A i j := by
    intro i j u v
    have y6 : ¬ (i = 10 ∧ j = ac) := fun w => by obtain ⟨rfl, rfl⟩ := w; exact absurd v (Int.lt_irrefl _)
    have y7 : ¬ (i = 11 ∧ j = ac) := fun w => by obtain ⟨rfl, rfl⟩ := w; exact absurd v (Int.lt_irrefl _)
    unfold aUp
    rw [if_neg y7, if_neg y6]
  have A6 : aUp (aUp A 10 ac q6) 11 ac q1 10 ac = q6 := by rw [aUp_i (by decide), aUp_s]
  have A7 : aUp (aUp A 10 ac q6) 11 ac q1 11 ac = q1 := aUp_s
  have L4 : Lab vK vL (va_up (va_up h.kd q6 5) q1 6) (va_up h.an q1 2) (aUp (aUp A 10 ac q6) 11 ac q1) (gUp (gUp g q6 10 ac) q1 11 ac) (vN mc (ac + 1)) := by
    refine Lab.mono L2 (fun i => ?_)
    unfold nUp
    by_cases y6 : i = 10
    · subst y6; exact Int.le_refl _
    · by_cases y7 : i = 11
      · subst y7; exact Int.le_refl _
      · rw [if_neg y7, if_neg y6, vN_a y6 y7]; exact Int.le_refl _
  clear L1 L2
  generalize hA' : aUp (aUp A 10 ac q6) 11 ac q1 = A' at *
  generalize gUp (gUp g q6 10 ac) q1 11 ac = g' at *
  have f0 := fr 0 0 (by decide) z01
  refine hp1 hG e _ _ ai' ar' cn kn _ _ A' g' ⟨L4, ?_, ?_, ?_, ?_, ?_, ?_, ?_, ?_⟩ (fun i j u v => ⟨fr i j u v, aio _ (n1 u v)⟩) ecn ekn ?_ ?_ ?_
  · show h.mX32_tables (A' 0 0) = some (A' 4 0) ∧ h.mX32_mappings (A' 0 0) = some (A' 5 0) ∧ h.mX32_atoms (A' 0 0) = some (A' 9 0) ∧ h.mX32_unions (A' 0 0) = some (A' 15 0)
    rw [f0, fr 4 0 (by decide) z01, fr 5 0 (by decide) z01, fr 9 0 (by decide) z01, fr 15 0 (by decide) z01]; exact S.rt
  · show h.mX32_spanOf (A' 0 0) = some (A' 12 0) ∧ h.mX32_spanFrom (A' 0 0) = some (A' 13 0) ∧ h.mX32_spanTo (A' 0 0) = some (A' 14 0)
    rw [f0, fr 12 0 (by decide) z01, fr 13 0 (by decide) z01, fr 14 0 (by decide) z01]; exact S.rs
  · show h.mX32_chosen (A' 0 0) = some (A' 19 0) ∧ h.mX32_kinds (A' 0 0) = some (A' 20 0) ∧ h.mX32_given (A' 0 0) = some (A' 21 0) ∧ h.mX32_rowOf (A' 0 0) = some (A' 22 0)
    rw [f0, fr 19 0 (by decide) z01, fr 20 0 (by decide) z01, fr 21 0 (by decide) z01, fr 22 0 (by decide) z01]; exact S.rw
  · show h.mX32_answers (A' 0 0) = some (A' 23 0) ∧ h.mX32_foundBy (A' 0 0) = some (A' 24 0) ∧ h.mX32_firstBy (A' 0 0) = some (A' 25 0) ∧ h.mX32_lastBy (A' 0 0) = some (A' 26 0)
    rw [f0, fr 23 0 (by decide) z01, fr 24 0 (by decide) z01, fr 25 0 (by decide) z01, fr 26 0 (by decide) z01]; exact S.ra
  · intro t u v
    show ar' (A' 4 0) t = some (A' 1 t) ∧ h.mX33_cells (A' 1 t) = some (A' 2 t) ∧ h.mX33_keys (A' 1 t) = some (A' 3 t)
    rw [fr 4 0 (by decide) z01, fr 1 t u v, fr 2 t u v, fr 3 t u v, u5, S.up 9 4 0 0 ⟨by decide, z01⟩ ⟨by decide, z01⟩ (Or.inl (by decide))]; exact S.tab t u v
  · intro m u v
    show ar' (A' 5 0) m = some (A' 6 m) ∧ h.mX81_table (A' 6 m) = some (A' 1 (tb m)) ∧ h.mX81_templates (A' 6 m) = some (A' 7 m) ∧ h.mX81_columns (A' 6 m) = some (A' 8 m) ∧ 0 ≤ tb m ∧ tb m < 4
    have M := S.map m u v
    rw [fr 5 0 (by decide) z01, fr 6 m u v, fr 7 m u v, fr 8 m u v, fr 1 (tb m) M.2.2.2.2.1 M.2.2.2.2.2, u5, S.up 9 5 0 0 ⟨by decide, z01⟩ ⟨by decide, z01⟩ (Or.inl (by decide))]; exact M
  · intro m u v
    show ar' (A' 9 0) m = some (A' 10 m) ∧ va_up (va_up h.mX82_places q6 none) q6 (some q1) (A' 10 m) = some (A' 11 m)
    rw [fr 9 0 (by decide) z01, u5, va_up_self, va_up_up]
    by_cases hmm : m = ac
    · subst hmm
      rw [A6, A7, updI_s, va_up_self]
      exact ⟨rfl, rfl⟩
    · have v' : m < ac := by omega
      rw [updI_n hmm, fr 10 m u v', fr 11 m u v', va_up_ne _ _ (n6 (i := 10) u v')]
      exact S.atm m u v'
  · intro m u v
    show ar' (A' 15 0) m = some (A' 16 m) ∧ h.mX34_mappings (A' 16 m) = some (A' 17 m) ∧ h.mX34_slots (A' 16 m) = some (A' 18 m)
    rw [fr 15 0 (by decide) z01, fr 16 m u v, fr 17 m u v, fr 18 m u v, u5, S.up 9 15 0 0 ⟨by decide, z01⟩ ⟨by decide, z01⟩ (Or.inl (by decide))]; exact S.uni m u v
  · rw [A6, va_up_self]
  · intro m u v
    rw [va_up_ne _ _ (n6 (i := 10) u v), va_up_ne _ _ (n6 (i := 10) u v)]
  · rw [A7, ai1]
    exact ⟨rfl, rfl⟩
theorem CVR_span {post : Int → (Nat → Int → Int) → (Nat → Int) → Prop} {sc v x y : Int} (S : vSh h A g mc ac tb) (hs : 0 ≤ sc ∧ sc ≤ 4) (hn : h.mX32_spans (A 0 0) = sc)
    (hp0 : ¬ ((0 ≤ v ∧ v < 6) ∧ sc ≠ 4) → post (vSpan sc v) h.ai h.mX32_spans)
    (hp1 : (0 ≤ v ∧ v < 6) → sc ≠ 4 → post (sc + 1) (va_up (va_up (va_up h.ai (A 12 0) (updI (h.ai (A 12 0)) sc v)) (A 13 0) (updI (h.ai (A 13 0)) sc x)) (A 14 0) (updI (h.ai (A 14 0)) sc y)) (va_up h.mX32_spans (A 0 0) (sc + 1))) : uVR_X32_span post h (A 0 0) v x y := by
  unfold uVR_X32_span wpVR_X32_span
  unfold vSpan at hp0
  refine CVR_isInB (fun a1 a2 => ?_) (fun z => by have := hp0 (fun w => z w.1); rw [if_neg z] at this; exact this)
  rw [hn]
  have e12 : h.an (A 12 0) = 4 := S.len 12 0 (by decide) (by decide) (by decide) z01
  have e13 : h.an (A 13 0) = 4 := S.len 13 0 (by decide) (by decide) (by decide) z01
  have e14 : h.an (A 14 0) = 4 := S.len 14 0 (by decide) (by decide) (by decide) z01
  refine ⟨fun e => ?_, fun e => kOn_of S.rs.1 ⟨S.kd 12 0 (by decide) (by decide) z01, by rw [e12]; omega, fun _ u1 => kOn_of S.rs.2.1 ⟨S.kd 13 0 (by decide) (by decide) z01, by rw [e13]; omega, fun _ u2 => kOn_of S.rs.2.2 ⟨S.kd 14 0 (by decide) (by decide) z01, by rw [e14]; omega, fun _ u3 => ⟨by omega, fun _ u4 _ u5 => ?_⟩⟩⟩⟩⟩
  · have := hp0 (fun w => w.2 e)
    rw [if_pos ⟨a1, a2⟩, if_pos e] at this; exact this
  · subst u1 u2 u3 u4 u5
    rw [va_up_self, S.up 12 13 0 0 ⟨by decide, z01⟩ ⟨by decide, z01⟩ (Or.inl (by decide)), S.up 13 14 0 0 ⟨by decide, z01⟩ ⟨by decide, z01⟩ (Or.inl (by decide)), S.up 12 14 0 0 ⟨by decide, z01⟩ ⟨by decide, z01⟩ (Or.inl (by decide))]
    exact hp1 ⟨a1, a2⟩ e
end

/-! VirtualRewrite (room VR): kinds of variables; whether a mapping fits; one row for two atoms -/
/-- what the atoms hold -/
def vRA (ai : Nat → Int → Int) (pr : Nat → Int) (A : Nat → Int → Nat) (at_ : Int → Int) (ac : Int) : Prop := ∀ k, 0 ≤ k → k < ac → pr (A 10 k) = at_ (3 * k) ∧ ∀ p, 0 ≤ p → p < 2 → ai (A 11 k) p = at_ (3 * k + 1 + p) ∧ -6 ≤ at_ (3 * k + 1 + p)
def vHad (f : Int → Int) (pl : Int) : Int := if 0 ≤ pl then pl / 10000 else f (-1 - pl)
def vSet (f : Int → Int) (pl t : Int) : Int → Int := if 0 ≤ pl then f else updI f (-1 - pl) t
def vFit (f : Int → Int) (pl t : Int) : Prop := vHad f pl = -1 ∨ vHad f pl = t
section
variable {h : HpVR} {A : Nat → Int → Nat} {g : Nat → Nat × Int} {mc ac : Int} {tb : Int → Int} {c sz ky mp at_ : Int → Int}
theorem CVR_kindAt {post : Int → Prop} {pl : Int} (S : vSh h A g mc ac tb) (hl : -6 ≤ pl) (h1 : 0 ≤ pl → post (-1)) (h0 : ¬ 0 ≤ pl → post (h.ai (A 20 0) (-1 - pl))) : uVR_X32_kindAt post h (A 0 0) pl := by
  unfold uVR_X32_kindAt wpVR_X32_kindAt
  have e20 : h.an (A 20 0) = 6 := S.len 20 0 (by decide) (by decide) (by decide) z01
  exact ⟨h1, fun z => kOn_of S.rw.2.1 ⟨S.kd 20 0 (by decide) (by decide) z01, by rw [e20]; omega, by omega, h0 z⟩⟩
theorem CVR_setKind {post : (Nat → Int → Int) → Prop} {pl t : Int} (S : vSh h A g mc ac tb) (hl : -6 ≤ pl) (hp : post (va_up h.ai (A 20 0) (vSet (h.ai (A 20 0)) pl t))) : uVR_X32_setKind post h (A 0 0) pl t := by
  unfold uVR_X32_setKind wpVR_X32_setKind
  have e20 : h.an (A 20 0) = 6 := S.len 20 0 (by decide) (by decide) (by decide) z01
  unfold vSet at hp
  refine ⟨fun z => ?_, fun z => kOn_of S.rw.2.1 ⟨S.kd 20 0 (by decide) (by decide) z01, by rw [e20]; omega, by omega, fun _ e => ?_⟩⟩
  · rw [if_pos z, va_up_id rfl] at hp; exact hp
  · rw [if_neg z] at hp; subst e; exact hp
/-- one place of an atom -/
theorem CVR_fits1 {K : Int → (Nat → Int → Int) → Prop} {k m p x : Int} {n : Nat} {r : Option Nat} (S : vSh h A g mc ac tb) (hm12 : mc ≤ 12) (hM : vRM h.ai h.mX81_predicate A tb mp mc) (hA : vRA h.ai h.mX82_predicate A at_ ac) (hk : 0 ≤ k ∧ k < ac) (hm : 0 ≤ m ∧ m < mc) (hp : 0 ≤ p ∧ p < 2) (er : r = some (A 10 k))
    (k0 : x = 0 → wVR_X32_fits_5 K (A 0 0) r m h.kd h.an h.ar h.mX32_mappings h.mX32_kinds h.mX81_templates h.mX82_places n 0 (p + 1) h.ai)
    (k1 : ¬ x = 0 → vFit (h.ai (A 20 0)) (at_ (3 * k + 1 + p)) (vTp mp m p) → wVR_X32_fits_5 K (A 0 0) r m h.kd h.an h.ar h.mX32_mappings h.mX32_kinds h.mX81_templates h.mX82_places n 1 (p + 1) (va_up h.ai (A 20 0) (vSet (h.ai (A 20 0)) (at_ (3 * k + 1 + p)) (vTp mp m p))))
    (k2 : ¬ x = 0 → ¬ vFit (h.ai (A 20 0)) (at_ (3 * k + 1 + p)) (vTp mp m p) → wVR_X32_fits_5 K (A 0 0) r m h.kd h.an h.ar h.mX32_mappings h.mX32_kinds h.mX81_templates h.mX82_places n 0 (p + 1) h.ai) :
    wVR_X32_fits_5 K (A 0 0) r m h.kd h.an h.ar h.mX32_mappings h.mX32_kinds h.mX81_templates h.mX82_places (n + 1) x p h.ai := by
  rw [wVR_X32_fits_5]
  have e5 : h.an (A 5 0) = 12 := S.len 5 0 (by decide) (by decide) (by decide) z01
  have e7 : h.an (A 7 m) = 2 := S.len 7 m (by decide) (by decide) hm.1 hm.2
  have e11 : h.an (A 11 k) = 2 := S.len 11 k (by decide) (by decide) hk.1 hk.2
  obtain ⟨s1, s2, s3, s4, s5, s6⟩ := S.map m hm.1 hm.2
  obtain ⟨t1, t2⟩ := S.atm k hk.1 hk.2
  have mT := ((hM m hm.1 hm.2).2.2 p hp.1 hp.2).1
  have aT := (hA k hk.1 hk.2).2 p hp.1 hp.2
  refine ⟨fun z => by omega, fun _ => kOn_of S.rt.2.1 ⟨S.kd 5 0 (by decide) (by decide) z01, by rw [e5]; omega, fun r5 q5 => kOn_of (q5.trans s1) ⟨S.kd 6 m (by decide) hm.1 hm.2, kOn_of s3 ⟨S.kd 7 m (by decide) hm.1 hm.2, by rw [e7]; omega, fun x5 q6 => kOn_of er ⟨S.kd 10 k (by decide) hk.1 hk.2, kOn_of t2 ⟨S.kd 11 k (by decide) hk.1 hk.2, by rw [e11]; omega, fun x6 q7 => ?_⟩⟩⟩⟩⟩⟩
  rw [mT] at q6
  rw [aT.1] at q7
  have aT2 := aT.2
  generalize hpl : at_ (3 * k + 1 + p) = pl at *
  generalize vTp mp m p = t at *
  subst q6 q7
  -- what the join does
  have j54 : ∀ y, y = vHad (h.ai (A 20 0)) x6 → wVR_X32_fits_54 (wVR_X32_fits_5 K (A 0 0) r m h.kd h.an h.ar h.mX32_mappings h.mX32_kinds h.mX81_templates h.mX82_places n) (A 0 0) x p x5 x6 y h.kd h.an h.ai h.mX32_kinds := by
    intro y ey
    unfold wVR_X32_fits_54
    have j73 : ¬ x = 0 → vFit (h.ai (A 20 0)) x6 x5 → wVR_X32_fits_73 (wVR_X32_fits_5 K (A 0 0) r m h.kd h.an h.ar h.mX32_mappings h.mX32_kinds h.mX81_templates h.mX82_places n) (A 0 0) p x5 x6 h.kd h.an h.ai h.mX32_kinds := by
      intro hx hf
      unfold wVR_X32_fits_73
      refine ⟨fun q => absurd q (by decide), fun _ => CVR_setKind S aT2 ⟨by omega, fun _ e => ?_⟩⟩
      subst e; exact k1 hx hf
    refine ⟨fun z => ⟨fun _ => ⟨by omega, fun _ e => ?_⟩, fun q => absurd rfl q⟩, fun z => ⟨fun z1 => j73 z (Or.inl (by omega)), fun z1 => ⟨fun z2 => j73 z (Or.inr (by omega)), fun z2 => ⟨fun _ => ⟨by omega, fun _ e => ?_⟩, fun q => absurd rfl q⟩⟩⟩⟩
    · subst e; exact k0 z
    · subst e; exact k2 z (fun w => by unfold vFit at w; omega)
  refine ⟨fun z => ⟨z, j54 _ (by unfold vHad; rw [if_pos z])⟩, fun z => CVR_kindAt S aT2 (fun q => absurd q z) (fun _ => j54 _ (by unfold vHad; rw [if_neg z]))⟩
theorem vRA_s {ai : Nat → Int → Int} (S : vSh h A g mc ac tb) {f : Int → Int} {i : Nat} {j : Int} (hj : 0 ≤ j ∧ j < vN mc ac i) (hi : i ≠ 11) (hA : vRA ai h.mX82_predicate A at_ ac) : vRA (va_up ai (A i j) f) h.mX82_predicate A at_ ac := by
  intro k a b
  obtain ⟨u, v⟩ := hA k a b
  refine ⟨u, fun p c d => ?_⟩
  rw [S.up i 11 j k hj ⟨a, b⟩ (Or.inl hi)]
  exact v p c d
theorem vRM_s {ai : Nat → Int → Int} (S : vSh h A g mc ac tb) {f : Int → Int} {i : Nat} {j : Int} (hj : 0 ≤ j ∧ j < vN mc ac i) (hi : i ≠ 7 ∧ i ≠ 8) (hM : vRM ai h.mX81_predicate A tb mp mc) : vRM (va_up ai (A i j) f) h.mX81_predicate A tb mp mc := by
  intro k a b
  obtain ⟨u, v, w⟩ := hM k a b
  refine ⟨u, v, fun p c d => ?_⟩
  rw [S.up i 7 j k hj ⟨a, b⟩ (Or.inl hi.1), S.up i 8 j k hj ⟨a, b⟩ (Or.inl hi.2)]
  exact w p c d
theorem CVR_fits {post : Int → (Nat → Int → Int) → Prop} {k m : Int} {r : Option Nat} (S : vSh h A g mc ac tb) (hm12 : mc ≤ 12) (hM : vRM h.ai h.mX81_predicate A tb mp mc) (hA : vRA h.ai h.mX82_predicate A at_ ac) (hk : 0 ≤ k ∧ k < ac) (hm : 0 ≤ m ∧ m < mc) (er : r = some (A 10 k))
    (p1 : vFit (h.ai (A 20 0)) (at_ (3 * k + 1)) (vTp mp m 0) → vFit (vSet (h.ai (A 20 0)) (at_ (3 * k + 1)) (vTp mp m 0)) (at_ (3 * k + 2)) (vTp mp m 1) → post 1 (va_up h.ai (A 20 0) (vSet (vSet (h.ai (A 20 0)) (at_ (3 * k + 1)) (vTp mp m 0)) (at_ (3 * k + 2)) (vTp mp m 1))))
    (p2 : vFit (h.ai (A 20 0)) (at_ (3 * k + 1)) (vTp mp m 0) → ¬ vFit (vSet (h.ai (A 20 0)) (at_ (3 * k + 1)) (vTp mp m 0)) (at_ (3 * k + 2)) (vTp mp m 1) → post 0 (va_up h.ai (A 20 0) (vSet (h.ai (A 20 0)) (at_ (3 * k + 1)) (vTp mp m 0))))
    (p3 : ¬ vFit (h.ai (A 20 0)) (at_ (3 * k + 1)) (vTp mp m 0) → post 0 h.ai) : uVR_X32_fits post h (A 0 0) r m := by
  unfold uVR_X32_fits wpVR_X32_fits
  refine ⟨3, CVR_fits1 S hm12 hM hA hk hm (by decide) er (fun q => absurd q (by decide)) (fun _ w => ?_) (fun _ w => ?_)⟩
  · rw [Int.add_zero] at w ⊢
    have S2 : vSh (h.s_ai (va_up h.ai (A 20 0) (vSet (h.ai (A 20 0)) (at_ (3 * k + 1)) (vTp mp m 0)))) A g mc ac tb := S
    refine CVR_fits1 (h := h.s_ai (va_up h.ai (A 20 0) (vSet (h.ai (A 20 0)) (at_ (3 * k + 1)) (vTp mp m 0)))) S2 hm12 (vRM_s S ⟨by decide, z01⟩ (by decide) hM) (vRA_s S ⟨by decide, z01⟩ (by decide) hA) hk hm (by decide) er (fun q => absurd q (by decide)) (fun _ w2 => ?_) (fun _ w2 => ?_)
    all_goals
      have e20 : (h.s_ai (va_up h.ai (A 20 0) (vSet (h.ai (A 20 0)) (at_ (3 * k + 1)) (vTp mp m 0)))).ai = va_up h.ai (A 20 0) (vSet (h.ai (A 20 0)) (at_ (3 * k + 1)) (vTp mp m 0)) := rfl
      have e2 : 3 * k + 1 + (0 + 1) = 3 * k + 2 := by omega
      have e3 : (0 : Int) + 1 = 1 := rfl
      rw [e20, va_up_self, e2, e3] at w2
      rw [wVR_X32_fits_5]
      refine ⟨fun _ => ?_, fun q => absurd (by decide) q⟩
    · rw [e20, va_up_self, e2, va_up_up]
      exact ⟨Or.inr rfl, p1 w w2⟩
    · exact ⟨Or.inl rfl, p2 w w2⟩
  · rw [Int.add_zero] at w
    refine CVR_fits1 S hm12 hM hA hk hm (by decide) er (fun _ => ?_) (fun q => absurd rfl q) (fun q => absurd rfl q)
    rw [wVR_X32_fits_5]
    exact ⟨fun _ => ⟨Or.inl rfl, p3 w⟩, fun q => absurd (by decide) q⟩
end

/-! VirtualRewrite (room VR): one row for two atoms -/
/-- what the component asks of two places -/
def vE (ky mp at_ tr : Int → Int) (i j p q : Int) : Prop := mp (6 * tr i) = mp (6 * tr j) ∧ vCo mp (tr i) p = vCo mp (tr j) q ∧ ¬ ky (3 * mp (6 * tr i) + vCo mp (tr i) p) = 0 ∧ at_ (3 * i + 1 + p) = at_ (3 * j + 1 + q)
theorem vE_one {ky mp at_ tr : Int → Int} {i j : Int} : vOne ky mp at_ tr i j ↔ ∃ p q, (0 ≤ p ∧ p < 2) ∧ (0 ≤ q ∧ q < 2) ∧ vE ky mp at_ tr i j p q := by
  unfold vOne vE
  constructor
  · rintro ⟨e, p, q, a, b, u, v, w⟩
    exact ⟨p, q, a, b, e.symm, v.symm, u, w⟩
  · rintro ⟨p, q, a, b, e, v, u, w⟩
    exact ⟨e.symm, p, q, a, b, u, v.symm, w⟩
section
variable {h : HpVR} {A : Nat → Int → Nat} {g : Nat → Nat × Int} {mc ac : Int} {tb : Int → Int} {c sz ky mp at_ tr : Int → Int}
theorem CVR_one40 {K : Int → Prop} {i j p x : Int} {r3 r4 : Option Nat} (S : vSh h A g mc ac tb) (hac : ac ≤ 4) (hO : vOK c sz mp mc) (hK : vRK h.ai A ky) (hM : vRM h.ai h.mX81_predicate A tb mp mc) (hA : vRA h.ai h.mX82_predicate A at_ ac) (hi : 0 ≤ i ∧ i < ac) (hj : 0 ≤ j ∧ j < ac) (hp : 0 ≤ p ∧ p < 2)
    (hti : 0 ≤ tr i ∧ tr i < mc) (htj : 0 ≤ tr j ∧ tr j < mc) (e3 : r3 = some (A 6 (tr i))) (e4 : r4 = some (A 6 (tr j))) (hx : x = 0 ∨ x = 1)
    (k1 : (x = 1 ∨ ∃ q, (0 ≤ q ∧ q < 2) ∧ vE ky mp at_ tr i j p q) → K 1) (k0 : x = 0 → ¬ (∃ q, (0 ≤ q ∧ q < 2) ∧ vE ky mp at_ tr i j p q) → K 0) :
    ∃ fu, wVR_X32_isOneRow_40 K (A 0 0) i j r3 r4 p h.kd h.an h.ai h.ar h.mX32_atoms h.mX33_keys h.mX81_table h.mX81_columns h.mX82_places fu x 0 := by
  obtain ⟨s1, s2, s3, s4, s5, s6⟩ := S.map (tr i) hti.1 hti.2
  obtain ⟨t1, t2, t3, t4, t5, t6⟩ := S.map (tr j) htj.1 htj.2
  obtain ⟨m1, m2, m3⟩ := hM (tr i) hti.1 hti.2
  obtain ⟨n1, n2, n3⟩ := hM (tr j) htj.1 htj.2
  obtain ⟨a1, a2⟩ := S.atm i hi.1 hi.2
  obtain ⟨b1, b2⟩ := S.atm j hj.1 hj.2
  obtain ⟨c1, c2⟩ := hA i hi.1 hi.2
  obtain ⟨d1, d2⟩ := hA j hj.1 hj.2
  have o1 := ((hO.2.2.1 (tr i) hti.1 hti.2).2.2 p hp.1 hp.2).2
  have l8i : h.an (A 8 (tr i)) = 2 := S.len 8 _ (by decide) (by decide) hti.1 hti.2
  have l8j : h.an (A 8 (tr j)) = 2 := S.len 8 _ (by decide) (by decide) htj.1 htj.2
  have l3 : h.an (A 3 (tb (tr i))) = 3 := S.len 3 _ (by decide) (by decide) s5 s6
  have l9 : h.an (A 9 0) = 4 := S.len 9 0 (by decide) (by decide) (by decide) z01
  have l11i : h.an (A 11 i) = 2 := S.len 11 _ (by decide) (by decide) hi.1 hi.2
  have l11j : h.an (A 11 j) = 2 := S.len 11 _ (by decide) (by decide) hj.1 hj.2
  have tbe : (h.mX81_table (A 6 (tr i)) = h.mX81_table (A 6 (tr j))) ↔ mp (6 * tr i) = mp (6 * tr j) := by
    rw [s2, t2, ← m1, ← n1]
    constructor
    · intro e
      have e := Option.some.inj e
      by_cases w : tb (tr i) = tb (tr j)
      · exact w
      · exact absurd e (S.lab.ne (i := 1) (i' := 1) ⟨s5, s6⟩ ⟨t5, t6⟩ (Or.inr w))
    · intro e; rw [e]
  refine wl2 _ (fun x q => (0 ≤ q ∧ q ≤ 2) ∧ ((x = 0 ∧ (∀ q', 0 ≤ q' → q' < q → ¬ vE ky mp at_ tr i j p q') ∧ ((∃ q, (0 ≤ q ∧ q < 2) ∧ vE ky mp at_ tr i j p q) → K 1) ∧ (¬ (∃ q, (0 ≤ q ∧ q < 2) ∧ vE ky mp at_ tr i j p q) → K 0)) ∨ (x = 1 ∧ K 1))) (fun x q => (2 - q).toNat) ?_ x 0 ⟨by omega, ?_⟩
  · rintro x q ⟨hq, hx⟩ f ih
    rw [wVR_X32_isOneRow_40]
    refine ⟨fun z => ?_, fun z => ⟨fun e => ?_, fun e => ⟨by omega, fun _ e1 => ?_⟩⟩⟩
    · rcases hx with ⟨rfl, u, v, w⟩ | ⟨rfl, u⟩
      · exact w (fun ⟨q', y1, y2⟩ => u q' y1.1 (by omega) y2)
      · exact u
    · have hx2 : (∀ q', 0 ≤ q' → q' < q → ¬ vE ky mp at_ tr i j p q') ∧ ((∃ q, (0 ≤ q ∧ q < 2) ∧ vE ky mp at_ tr i j p q) → K 1) ∧ (¬ (∃ q, (0 ≤ q ∧ q < 2) ∧ vE ky mp at_ tr i j p q) → K 0) := by
        rcases hx with ⟨_, hx⟩ | ⟨e2, _⟩
        · exact hx
        · omega
      have nx : ¬ vE ky mp at_ tr i j p q → (zR (q + 1) ∧ ∀ y : Int, y = q + 1 → wVR_X32_isOneRow_40 K (A 0 0) i j r3 r4 p h.kd h.an h.ai h.ar h.mX32_atoms h.mX33_keys h.mX81_table h.mX81_columns h.mX82_places f 0 y) := by
        intro w
        refine ⟨by omega, fun _ e1 => ?_⟩
        subst e1
        refine ih _ _ ⟨by omega, Or.inl ⟨rfl, fun q' u v => ?_, hx2.2⟩⟩ (by omega)
        by_cases hq' : q' = q
        · subst hq'; exact w
        · exact hx2.1 q' u (by omega)
      have o2 := ((hO.2.2.1 (tr j) htj.1 htj.2).2.2 q hq.1 (by omega)).2
      have m4 := m3 p hp.1 hp.2
      have n4 := n3 q hq.1 (by omega)
      refine kOn_of e3 ⟨S.kd 6 _ (by decide) hti.1 hti.2, kOn_of e4 ⟨S.kd 6 _ (by decide) htj.1 htj.2, fun z1 => kOn_of s4 ⟨S.kd 8 _ (by decide) hti.1 hti.2, by rw [l8i]; omega, kOn_of t4 ⟨S.kd 8 _ (by decide) htj.1 htj.2, by rw [l8j]; omega, ?_⟩⟩, fun z1 => nx (fun w => z1 (tbe.mpr w.1))⟩⟩
      have z1' := tbe.mp z1
      rw [m4.2, n4.2]
      refine ⟨fun z2 => kOn_of s2 ⟨S.kd 1 _ (by decide) s5 s6, kOn_of (S.tab _ s5 s6).2.2 ⟨S.kd 3 _ (by decide) s5 s6, by rw [l3]; omega, ?_⟩⟩, fun z2 => nx (fun w => z2 w.2.1)⟩
      rw [hK _ _ s5 s6 o1.1 o1.2, m1]
      refine ⟨fun z3 => nx (fun w => w.2.2.1 z3), fun z3 => kOn_of S.rt.2.2.1 ⟨S.kd 9 0 (by decide) (by decide) z01, by rw [l9]; omega, fun r5 q5 => kOn_of (q5.trans a1) ⟨S.kd 10 _ (by decide) hi.1 hi.2, kOn_of a2 ⟨S.kd 11 _ (by decide) hi.1 hi.2, by rw [l11i]; omega, by rw [l9]; omega, fun r6 q6 => kOn_of (q6.trans b1) ⟨S.kd 10 _ (by decide) hj.1 hj.2, kOn_of b2 ⟨S.kd 11 _ (by decide) hj.1 hj.2, by rw [l11j]; omega, ?_⟩⟩⟩⟩⟩⟩
      rw [(c2 p hp.1 hp.2).1, (d2 q hq.1 (by omega)).1]
      refine ⟨fun z4 => ⟨by omega, fun _ e1 => ?_⟩, fun z4 => nx (fun w => z4 w.2.2.2)⟩
      subst e1
      exact ih _ _ ⟨by omega, Or.inr ⟨rfl, hx2.2.1 ⟨q, ⟨hq.1, by omega⟩, z1', z2, z3, z4⟩⟩⟩ (by omega)
    · subst e1
      rcases hx with ⟨e2, _⟩ | ⟨_, u⟩
      · exact absurd e2 e
      · exact ih _ _ ⟨by omega, Or.inr ⟨rfl, u⟩⟩ (by omega)
  · rcases hx with e | e
    · exact Or.inl ⟨e, fun q' u v => by omega, fun w => k1 (Or.inr w), k0 e⟩
    · exact Or.inr ⟨e, k1 (Or.inl e)⟩
theorem CVR_isOneRowB {P Q : Prop} {i j : Int} (S : vSh h A g mc ac tb) (hac : ac ≤ 4) (hO : vOK c sz mp mc) (hK : vRK h.ai A ky) (hM : vRM h.ai h.mX81_predicate A tb mp mc) (hA : vRA h.ai h.mX82_predicate A at_ ac) (hi : 0 ≤ i ∧ i < ac) (hj : 0 ≤ j ∧ j < ac)
    (ei : h.ai (A 19 0) i = tr i) (ej : h.ai (A 19 0) j = tr j) (hti : 0 ≤ tr i ∧ tr i < mc) (htj : 0 ≤ tr j ∧ tr j < mc) (h1 : vOne ky mp at_ tr i j → Q) (h0 : ¬ vOne ky mp at_ tr i j → P) : uVR_X32_isOneRow (fun r => (r = 0 → P) ∧ (¬ r = 0 → Q)) h (A 0 0) i j := by
  unfold uVR_X32_isOneRow wpVR_X32_isOneRow
  have hmc := hO.1
  have l19 : h.an (A 19 0) = 4 := S.len 19 0 (by decide) (by decide) (by decide) z01
  have l5 : h.an (A 5 0) = 12 := S.len 5 0 (by decide) (by decide) (by decide) z01
  rw [vE_one] at h1 h0
  refine kOn_of S.rw.1 ⟨S.kd 19 0 (by decide) (by decide) z01, by rw [l19]; omega, kOn_of S.rt.2.1 ⟨S.kd 5 0 (by decide) (by decide) z01, ?_⟩⟩
  rw [ei, ej, l5, l19]
  refine ⟨by omega, fun r8 q8 => ⟨by omega, by omega, fun r12 q12 => ?_⟩⟩
  have q8' := q8.trans (S.map (tr i) hti.1 hti.2).1
  have q12' := q12.trans (S.map (tr j) htj.1 htj.2).1
  refine wl2 _ (fun x p => (0 ≤ p ∧ p ≤ 2) ∧ ((x = 0 ∧ ∀ p' q, 0 ≤ p' → p' < p → 0 ≤ q → q < 2 → ¬ vE ky mp at_ tr i j p' q) ∨ (x = 1 ∧ ∃ p q, (0 ≤ p ∧ p < 2) ∧ (0 ≤ q ∧ q < 2) ∧ vE ky mp at_ tr i j p q))) (fun x p => (2 - p).toNat) ?_ 0 0 ⟨by omega, Or.inl ⟨rfl, fun p' q u v => by omega⟩⟩
  rintro x p ⟨hp, hx⟩ f ih
  rw [wVR_X32_isOneRow_31]
  refine ⟨fun z => ?_, fun z => ?_⟩
  · rcases hx with ⟨rfl, hx⟩ | ⟨rfl, hx⟩
    · exact ⟨Or.inl rfl, fun _ => h0 (fun ⟨p', q, u, v, w⟩ => hx p' q u.1 (by omega) v.1 v.2 w), fun q => absurd rfl q⟩
    · exact ⟨Or.inr rfl, fun q => absurd q (by decide), fun _ => h1 hx⟩
  · refine CVR_one40 S hac hO hK hM hA hi hj ⟨hp.1, by omega⟩ hti htj q8' q12' (hx.elim (fun w => Or.inl w.1) (fun w => Or.inr w.1)) (fun w => ⟨by omega, fun _ e1 => ?_⟩) (fun w1 w2 => ⟨by omega, fun _ e1 => ?_⟩)
    · subst e1
      refine ih _ _ ⟨by omega, Or.inr ⟨rfl, ?_⟩⟩ (by omega)
      rcases w with w | ⟨q, u, v⟩
      · rcases hx with ⟨e, _⟩ | ⟨_, y⟩
        · omega
        · exact y
      · exact ⟨p, q, ⟨hp.1, by omega⟩, u, v⟩
    · subst e1
      refine ih _ _ ⟨by omega, Or.inl ⟨rfl, fun p' q u v y1 y2 => ?_⟩⟩ (by omega)
      by_cases hp' : p' = p
      · subst hp'; exact fun y => w2 ⟨q, ⟨y1, y2⟩, y⟩
      · rcases hx with ⟨_, y⟩ | ⟨e, _⟩
        · exact y p' q u (by omega) y1 y2
        · omega
end

/-! VirtualRewrite (room VR): a union is kept -/
/-- labels but two of one number are as they were -/
def vFu (ai ai' : Nat → Int → Int) (A : Nat → Int → Nat) (N : Nat → Int) (u : Int) : Prop := ∀ i j, 0 ≤ j → j < N i → ¬ (i = 17 ∧ j = u) → ¬ (i = 18 ∧ j = u) → ai' (A i j) = ai (A i j)
section
variable {h : HpVR} {A : Nat → Int → Nat} {g : Nat → Nat × Int} {mc ac : Int} {tb : Int → Int} {c sz ky mp at_ tr : Int → Int}
theorem vRK_f {ai ai' : Nat → Int → Int} {u : Int} (F : vFu ai ai' A (vN mc ac) u) (hK : vRK ai A ky) : vRK ai' A ky := fun t j a b c d => by rw [F 3 t a b (by omega) (by omega)]; exact hK t j a b c d
theorem vRM_f {ai ai' : Nat → Int → Int} {u : Int} {pr : Nat → Int} (F : vFu ai ai' A (vN mc ac) u) (hM : vRM ai pr A tb mp mc) : vRM ai' pr A tb mp mc := fun m a b => by
  rw [F 7 m a b (by omega) (by omega), F 8 m a b (by omega) (by omega)]; exact hM m a b
theorem vRA_f {ai ai' : Nat → Int → Int} {u : Int} {pr : Nat → Int} (F : vFu ai ai' A (vN mc ac) u) (hA : vRA ai pr A at_ ac) : vRA ai' pr A at_ ac := fun m a b => by
  rw [F 11 m a b (by omega) (by omega)]; exact hA m a b
theorem CVR_keep65 {K : Int → Prop} {k : Int} (S : vSh h A g mc ac tb) (hac : ac ≤ 4) (hO : vOK c sz mp mc) (hK : vRK h.ai A ky) (hM : vRM h.ai h.mX81_predicate A tb mp mc) (hA : vRA h.ai h.mX82_predicate A at_ ac) (hk : 0 ≤ k ∧ k < ac)
    (et : ∀ j, 0 ≤ j → j < ac → h.ai (A 19 0) j = tr j) (ht : ∀ j, 0 ≤ j → j < ac → 0 ≤ tr j ∧ tr j < mc) (hp : K (fstI (fun j => vOne ky mp at_ tr j k) k.toNat)) :
    ∃ fu, wVR_X32_keep_65 K (A 0 0) k h.kd h.an h.ai h.ar h.mX32_mappings h.mX32_atoms h.mX32_chosen h.mX33_keys h.mX81_table h.mX81_columns h.mX82_places fu 0 := by
  refine zl1 _ (fun j => 0 ≤ j ∧ ∀ j', 0 ≤ j' → j' < j → ¬ vOne ky mp at_ tr j' k) k ?_ ⟨by omega, fun j' u v => by omega⟩ hk.1
  intro n j ⟨hj, hno⟩ hN ih
  rw [wVR_X32_keep_65]
  refine ⟨fun z => ?_, fun z => CVR_isOneRowB (tr := tr) S hac hO hK hM hA ⟨hj, by omega⟩ hk (et j hj (by omega)) (et k hk.1 hk.2) (ht j hj (by omega)) (ht k hk.1 hk.2) (fun w => ?_) (fun w => ⟨by omega, fun _ e1 => ?_⟩)⟩
  · have : j = k := by omega
    subst this
    rw [fstI_u (k := j) hj (by omega) (fun q => by omega) hno] at hp
    exact hp
  · rw [fstI_u (k := j) hj (by omega) (fun _ => w) hno] at hp
    exact hp
  · subst e1
    refine ih (by omega) ⟨by omega, fun j' u v => ?_⟩
    by_cases hq : j' = j
    · subst hq; exact w
    · exact hno j' u (by omega)
theorem CVR_keep {n : Nat} {uc : Int} {post : (Nat → Int → Int) → (Nat → Int) → (Nat → Int) → (Nat → Int) → Prop} (S : vSh h A g mc n tb) (hn : n ≤ 4) (hO : vOK c sz mp mc) (hK : vRK h.ai A ky) (hM : vRM h.ai h.mX81_predicate A tb mp mc) (hA : vRA h.ai h.mX82_predicate A at_ n)
    (en : h.mX32_atomCount (A 0 0) = n) (eu : h.mX32_unionCount (A 0 0) = uc) (hu : 0 ≤ uc ∧ uc ≤ 150) (et : ∀ j : Int, 0 ≤ j → j < n → h.ai (A 19 0) j = tr j) (ht : ∀ j : Int, 0 ≤ j → j < n → 0 ≤ tr j ∧ tr j < mc)
    (p1 : uc = 150 → post h.ai h.mX32_unionCount (va_up h.mX32_large (A 0 0) 1) h.mX34_slotCount)
    (p0 : uc < 150 → ∀ ai' sc', vFu h.ai ai' A (vN mc n) uc → (∀ j : Int, 0 ≤ j → j < n → ai' (A 17 uc) j = tr j ∧ ai' (A 18 uc) j = (vSl (vOne ky mp at_ tr) n).1 j) → sc' (A 16 uc) = (vSl (vOne ky mp at_ tr) n).2 → (∀ b, b ≠ A 16 uc → sc' b = h.mX34_slotCount b) →
      post ai' (va_up h.mX32_unionCount (A 0 0) (uc + 1)) h.mX32_large sc') : uVR_X32_keep post h (A 0 0) := by
  unfold uVR_X32_keep wpVR_X32_keep
  rw [eu]
  have l15 : h.an (A 15 0) = 150 := S.len 15 0 (by decide) (by decide) (by decide) z01
  refine ⟨fun e _ e1 => ?_, fun e => kOn_of S.rt.2.2.2 ⟨S.kd 15 0 (by decide) (by decide) z01, by rw [l15]; omega, fun r5 q5 => ⟨by omega, fun _ e1 _ e2 => ?_⟩⟩⟩
  · subst e1; exact p1 e
  have hu' : uc < 150 := by omega
  obtain ⟨s1, s2, s3⟩ := S.uni uc hu.1 hu'
  have q5' := q5.trans s1
  have k16 : h.kd (A 16 uc) = 3 := S.kd 16 uc (by decide) hu.1 hu'
  have k17 : h.kd (A 17 uc) = 6 := S.kd 17 uc (by decide) hu.1 hu'
  have k18 : h.kd (A 18 uc) = 6 := S.kd 18 uc (by decide) hu.1 hu'
  have k19 : h.kd (A 19 0) = 6 := S.kd 19 0 (by decide) (by decide) z01
  have l17 : h.an (A 17 uc) = 4 := S.len 17 uc (by decide) (by decide) hu.1 hu'
  have l18 : h.an (A 18 uc) = 4 := S.len 18 uc (by decide) (by decide) hu.1 hu'
  have l19 : h.an (A 19 0) = 4 := S.len 19 0 (by decide) (by decide) (by decide) z01
  refine kOn_of q5' ⟨k16, fun sc e3 => ?_⟩
  subst e1 e2
  generalize hone : vOne ky mp at_ tr = one at p0
  refine wl3 _ (fun (k : Int) ai' sc' => (0 ≤ k ∧ k ≤ n) ∧ vFu h.ai ai' A (vN mc n) uc ∧ (∀ j, 0 ≤ j → j < k → ai' (A 17 uc) j = tr j ∧ ai' (A 18 uc) j = (vSl one k.toNat).1 j) ∧ sc' (A 16 uc) = (vSl one k.toNat).2 ∧ ∀ b, b ≠ A 16 uc → sc' b = h.mX34_slotCount b) (fun (k : Int) ai' sc' => (n - k).toNat) ?_ 0 h.ai sc ⟨by omega, fun i j u v w y => rfl, fun j u v => by omega, by rw [e3, va_up_self]; rfl, fun b hb => by rw [e3, va_up_ne _ _ hb]⟩
  rintro k ai' sc' ⟨hk, F, hT, hS, hsc⟩ f ih
  rw [wVR_X32_keep_43, en]
  refine ⟨fun z => ?_, fun z => kOn_of q5' ⟨k16, kOn_of S.rw.1 ⟨k19, by rw [l19]; omega, fun v21 q21 => kOn_of s2 ⟨k17, by rw [l17]; omega, fun ai2 q2 => ?_⟩⟩⟩⟩
  · have : k = n := by omega
    subst this
    rw [Int.toNat_natCast] at hT hS
    exact p0 hu' ai' sc' F hT hS hsc
  rw [F 19 0 (by decide) z01 (by omega) (by omega), et k hk.1 (by omega)] at q21
  subst q21
  have n78 : A 17 uc ≠ A 18 uc := S.lab.ne (i := 17) (i' := 18) ⟨hu.1, hu'⟩ ⟨hu.1, hu'⟩ (Or.inl (by decide))
  have F2 : vFu h.ai ai2 A (vN mc n) uc := by
    intro i j u v w y
    rw [q2, va_up_ne _ _ (S.lab.ne (i := i) (i' := 17) ⟨u, v⟩ ⟨hu.1, hu'⟩ (by by_cases hi : i = 17; (· exact Or.inr (fun e => w ⟨hi, e⟩)); exact Or.inl hi))]
    exact F i j u v w y
  have S2 : vSh (h.s_ai ai2) A g mc n tb := S
  refine CVR_keep65 (h := h.s_ai ai2) S2 (by omega) hO (vRK_f F2 hK) (vRM_f F2 hM) (vRA_f F2 hA) ⟨hk.1, by omega⟩ (fun j u v => by show ai2 (A 19 0) j = tr j; rw [F2 19 0 (by decide) z01 (by omega) (by omega)]; exact et j u v) ht ?_
  rw [hone]
  have hf := fstI_s (fun j => one j k) k.toNat
  have ek : ((k.toNat : Nat) : Int) = k := by omega
  rw [ek] at hf
  have en1 : (k + 1).toNat = k.toNat + 1 := by omega
  have vb := vSl_b one k.toNat
  have a17 : ∀ j, 0 ≤ j → j < k + 1 → ai2 (A 17 uc) j = tr j := by
    intro j u v
    rw [q2, va_up_self]
    by_cases hj : j = k
    · subst hj; rw [updI_s]
    · rw [updI_n hj]; exact (hT j u (by omega)).1
  have a18 : ai2 (A 18 uc) = ai' (A 18 uc) := by rw [q2, va_up_ne _ _ n78.symm]
  -- the slot is written
  have w108 : ∀ y2 : Int, ∀ of : Int, of = fstI (fun j => one j k) k.toNat → y2 = (if of < k then (vSl one k.toNat).1 of else (vSl one k.toNat).2) → ∀ y0 : Option Nat, y0 = some (A 18 uc) →
      wVR_X32_keep_108 (wVR_X32_keep_43 (fun ai_61 mX34_slotCount_62 => post ai_61 (va_up h.mX32_unionCount (A 0 0) (uc + 1)) h.mX32_large mX34_slotCount_62) (A 0 0) r5 h.kd h.an h.ar h.mX32_mappings h.mX32_atoms h.mX32_atomCount h.mX32_chosen h.mX33_keys h.mX34_mappings h.mX34_slots h.mX81_table h.mX81_columns h.mX82_places f) r5 k of y0 k y2 h.kd h.an ai2 sc' := by
    intro y2 of eo ey y0 e0
    unfold wVR_X32_keep_108
    refine kOn_of e0 ⟨k18, by rw [l18]; omega, fun ai3 q3 => kOn_of q5' ⟨k16, ?_⟩⟩
    rw [hS]
    have F3 : vFu h.ai ai3 A (vN mc n) uc := by
      intro i j u v w y
      rw [q3, va_up_ne _ _ (S.lab.ne (i := i) (i' := 18) ⟨u, v⟩ ⟨hu.1, hu'⟩ (by by_cases hi : i = 18; (· exact Or.inr (fun e => y ⟨hi, e⟩)); exact Or.inl hi))]
      exact F2 i j u v w y
    have b17 : ai3 (A 17 uc) = ai2 (A 17 uc) := by rw [q3, va_up_ne _ _ n78]
    have sl1 : (vSl one (k.toNat + 1)).1 = updI (vSl one k.toNat).1 k y2 := by
      rw [vSl, ek, ← eo, ey]
      by_cases hof : of < k
      · rw [if_pos hof, if_pos hof]
      · rw [if_neg hof, if_neg hof]
    have b18 : ∀ j, 0 ≤ j → j < k + 1 → ai3 (A 18 uc) j = (vSl one (k + 1).toNat).1 j := by
      intro j u v
      rw [q3, va_up_self, en1, sl1, a18]
      by_cases hj : j = k
      · subst hj; rw [updI_s, updI_s]
      · rw [updI_n hj, updI_n hj]; exact (hT j u (by omega)).2
    refine ⟨fun w => ⟨by omega, fun v e1 sc2 e2 => ⟨by omega, fun _ e4 => ?_⟩⟩, fun w => ⟨by omega, fun v e1 sc2 e2 => ⟨by omega, fun _ e4 => ?_⟩⟩⟩
    · subst e4
      refine ih _ _ _ ⟨by omega, F3, fun j u v => ⟨by rw [b17]; exact a17 j u v, b18 j u v⟩, ?_, fun b hb => by rw [e2, va_up_ne _ _ hb]; exact hsc b hb⟩ (by omega)
      rw [e2, va_up_self, e1, en1, vSl, ek, ← eo, if_neg (by omega)]
    · subst e4
      refine ih _ _ _ ⟨by omega, F3, fun j u v => ⟨by rw [b17]; exact a17 j u v, b18 j u v⟩, ?_, fun b hb => by rw [e2, va_up_ne _ _ hb]; exact hsc b hb⟩ (by omega)
      rw [e2, va_up_self, e1, en1, vSl, ek, ← eo, if_pos (by omega), Int.add_zero]
  unfold wVR_X32_keep_85
  refine kOn_of q5' ⟨k16, fun w => ?_, fun w => kOn_of s3 ⟨k18, by show _ ∧ _ < ((h.an (A 18 uc) : Nat) : Int); rw [l18]; omega, ?_⟩⟩
  · exact w108 _ _ rfl (by rw [if_neg (by omega)]; exact hS) _ s3
  · refine w108 _ _ rfl ?_ _ rfl
    rw [if_pos (by omega)]
    show ai2 (A 18 uc) _ = _
    rw [a18]
    exact (hT _ hf.1.1 (by omega)).2
end

/-! VirtualRewrite: choices by digits, kinds of variables (plain) -/
def vCdi (mp at_ tr : Int → Int) (i : Int) : Prop := (0 ≤ vPl at_ i → vPl at_ i / 10000 = vTt mp tr i) ∧ ∀ j, 0 ≤ j → j < i → vPl at_ i < 0 → vPl at_ j = vPl at_ i → vTt mp tr j = vTt mp tr i
def vKi (mp at_ tr : Int → Int) (N : Int) (f : Int → Int) : Prop := ∀ v, 0 ≤ v → v < 6 → (∀ i, 0 ≤ i → i < N → vPl at_ i = -1 - v → f v = vTt mp tr i) ∧ ((∀ i, 0 ≤ i → i < N → vPl at_ i ≠ -1 - v) → f v = -1)
section
variable {mp at_ tr f : Int → Int} {N : Int}
theorem vKi_fit (hK : vKi mp at_ tr N f) (hN : 0 ≤ N) (hl : -6 ≤ vPl at_ N) (ht : ∀ i, 0 ≤ i → i ≤ N → 0 ≤ vTt mp tr i) : vFit f (vPl at_ N) (vTt mp tr N) ↔ vCdi mp at_ tr N := by
  unfold vFit vHad vCdi
  have htN := ht N hN (Int.le_refl _)
  by_cases hp : 0 ≤ vPl at_ N
  · rw [if_pos hp]
    constructor
    · intro w
      exact ⟨fun _ => by omega, fun j a b c => by omega⟩
    · intro w
      exact Or.inr (w.1 hp)
  · rw [if_neg hp]
    obtain ⟨h1, h2⟩ := hK (-1 - vPl at_ N) (by omega) (by omega)
    constructor
    · intro w
      refine ⟨fun q => absurd q hp, fun j a b _ e => ?_⟩
      have e1 := h1 j a b (by omega)
      have e2 := ht j a (by omega)
      omega
    · intro w
      by_cases hx : ∃ j, 0 ≤ j ∧ j < N ∧ vPl at_ j = vPl at_ N
      · obtain ⟨j, a, b, e⟩ := hx
        have e1 := h1 j a b (by omega)
        have e2 := w.2 j a b (by omega) e
        exact Or.inr (by omega)
      · refine Or.inl (h2 (fun i a b e => hx ⟨i, a, b, by omega⟩))
theorem vKi_set (hN : 0 ≤ N) (hK : vKi mp at_ tr N f) (hc : vCdi mp at_ tr N) : vKi mp at_ tr (N + 1) (vSet f (vPl at_ N) (vTt mp tr N)) := by
  intro v v0 v1
  obtain ⟨h1, h2⟩ := hK v v0 v1
  unfold vSet
  by_cases hp : 0 ≤ vPl at_ N
  · rw [if_pos hp]
    refine ⟨fun i a b e => ?_, fun w => h2 (fun i a b => w i a (by omega))⟩
    by_cases hi : i = N
    · subst hi; omega
    · exact h1 i a (by omega) e
  · rw [if_neg hp]
    by_cases hv : v = -1 - vPl at_ N
    · rw [← hv, updI_s]
      refine ⟨fun i a b e => ?_, fun w => absurd (show vPl at_ N = -1 - v by omega) (w N hN (by omega))⟩
      by_cases hi : i = N
      · subst hi; rfl
      · exact (hc.2 i a (by omega) (by omega) (by omega)).symm
    · rw [updI_n hv]
      refine ⟨fun i a b e => ?_, fun w => h2 (fun i a b => w i a (by omega))⟩
      by_cases hi : i = N
      · subst hi; omega
      · exact h1 i a (by omega) e
theorem vPl_0 {k : Int} : vPl at_ (2 * k) = at_ (3 * k + 1) := by unfold vPl; rw [show 2 * k / 2 = k by omega, show 2 * k % 2 = 0 by omega, Int.add_zero]
theorem vPl_1 {k : Int} : vPl at_ (2 * k + 1) = at_ (3 * k + 2) := by unfold vPl; rw [show (2 * k + 1) / 2 = k by omega, show (2 * k + 1) % 2 = 1 by omega, show 3 * k + 1 + 1 = 3 * k + 2 by omega]
theorem vTt_0 {k : Int} : vTt mp tr (2 * k) = vTp mp (tr k) 0 := by unfold vTt; rw [show 2 * k / 2 = k by omega, show 2 * k % 2 = 0 by omega]
theorem vTt_1 {k : Int} : vTt mp tr (2 * k + 1) = vTp mp (tr k) 1 := by unfold vTt; rw [show (2 * k + 1) / 2 = k by omega, show (2 * k + 1) % 2 = 1 by omega]
theorem vGood_s {k : Int} (hk : 0 ≤ k) : vGood mp at_ (k + 1) tr ↔ vGood mp at_ k tr ∧ mp (6 * tr k + 1) = at_ (3 * k) ∧ vCdi mp at_ tr (2 * k) ∧ vCdi mp at_ tr (2 * k + 1) := by
  constructor
  · rintro ⟨a, b⟩
    exact ⟨⟨fun j u v => a j u (by omega), fun i u v => b i u (by omega)⟩, a k hk (by omega), b _ (by omega) (by omega), b _ (by omega) (by omega)⟩
  · rintro ⟨⟨a, b⟩, c, d, e⟩
    refine ⟨fun j u v => ?_, fun i u v => ?_⟩
    · by_cases hj : j = k
      · subst hj; exact c
      · exact a j u (by omega)
    · by_cases h1 : i = 2 * k
      · subst h1; exact d
      · by_cases h2 : i = 2 * k + 1
        · subst h2; exact e
        · exact b i u (by omega)
theorem vGood_m {k n : Int} (h : k ≤ n) (w : vGood mp at_ n tr) : vGood mp at_ k tr := ⟨fun j u v => w.1 j u (by omega), fun i u v => w.2 i u (by omega)⟩
theorem vTt_c {tr' : Int → Int} {n i : Int} (h : ag n tr tr') (h0 : 0 ≤ i) (h1 : i < 2 * n) : vTt mp tr i = vTt mp tr' i := by unfold vTt; rw [h (i / 2) (by omega) (by omega)]
theorem vKi_c {tr' : Int → Int} {k : Int} (h : ag k tr tr') (hK : vKi mp at_ tr (2 * k) f) : vKi mp at_ tr' (2 * k) f := fun v a b =>
  ⟨fun i c d e => by rw [← vTt_c h c d]; exact (hK v a b).1 i c d e, (hK v a b).2⟩
end
theorem dgt_p {M : Nat} : ∀ {d k i : Nat} {j : Int}, j < k → dgt M (k + d) i j = dgt M k (i / M ^ d) j
  | 0, k, i, j, h => by rw [Nat.pow_zero, Nat.div_one, Nat.add_zero]
  | d + 1, k, i, j, h => by
    show dgt M (k + d + 1) i j = _
    rw [dgt, if_neg (by omega), dgt_p h, Nat.div_div_eq_div_mul, Nat.pow_succ, Nat.mul_comm M]
theorem dgt_l {M k I m : Nat} (hm : m < M) : dgt M (k + 1) (I * M + m) k = m := by
  rw [dgt, if_pos rfl, Nat.mul_comm, Nat.mul_add_mod, Nat.mod_eq_of_lt hm]
theorem dgt_r {M k I m : Nat} {j : Int} (hm : m < M) (hj : j ≠ k) : dgt M (k + 1) (I * M + m) j = dgt M k I j := by
  have e : (I * M + m) / M = I := by rw [Nat.mul_comm, Nat.mul_add_div (by omega), Nat.div_eq_of_lt hm, Nat.add_zero]
  rw [dgt, if_neg hj, e]
theorem cntP_k {p : Nat → Prop} {a b : Nat} (h : a ≤ b) (hn : ∀ i, a ≤ i → i < b → ¬ p i) : cntP p b = cntP p a := by
  induction h with
  | refl => rfl
  | step hab ih => rw [cntP_f (hn _ hab (Nat.lt_succ_self _)), ih (fun i u v => hn i u (Nat.lt_succ_of_lt v))]
/-- a prefix that is not good has no good choice behind it -/
theorem cntP_bad {mp at_ : Int → Int} {M k d J : Nat} (hb : ¬ vGood mp at_ k (dgt M k J)) : cntP (vG mp at_ M (k + d)) ((J + 1) * M ^ d) = cntP (vG mp at_ M (k + d)) (J * M ^ d) := by
  refine cntP_k (Nat.mul_le_mul_right _ (Nat.le_succ _)) (fun i u v hg => hb ?_)
  have e : i / M ^ d = J := Nat.div_eq_of_lt_le u v
  have hg2 : vGood mp at_ k (dgt M (k + d) i) := vGood_m (by omega) hg
  refine (vGood_c (fun j a b => ?_)).mp hg2
  rw [dgt_p (by omega), e]

/-! VirtualRewrite (room VR): all choices, one behind the other -/
def vFc (ai ai' : Nat → Int → Int) (A : Nat → Int → Nat) (N : Nat → Int) : Prop := ∀ i j, 0 ≤ j → j < N i → i ≠ 17 → i ≠ 18 → i ≠ 19 → i ≠ 20 → ai' (A i j) = ai (A i j)
def vUsC (ky mp at_ : Int → Int) (M n e : Nat) (ai : Nat → Int → Int) (sc : Nat → Int) (A : Nat → Int → Nat) : Prop := ∀ u : Nat, u < cntP (vG mp at_ M n) e → (∀ j : Int, 0 ≤ j → j < n → ai (A 17 u) j = dgt M n (nthP (vG mp at_ M n) u) j ∧ ai (A 18 u) j = (vSlU ky mp at_ M n (nthP (vG mp at_ M n) u)).1 j) ∧ sc (A 16 u) = (vSlU ky mp at_ M n (nthP (vG mp at_ M n) u)).2
def vRs (ky mp at_ : Int → Int) (M n e : Nat) (ai : Nat → Int → Int) (uc lg sc : Nat → Int) (A : Nat → Int → Nat) : Prop :=
  (cntP (vG mp at_ M n) e ≤ 150 ∧ uc (A 0 0) = cntP (vG mp at_ M n) e ∧ lg (A 0 0) = 0 ∧ vUsC ky mp at_ M n e ai sc A) ∨ (150 < cntP (vG mp at_ M n) e ∧ uc (A 0 0) = 150 ∧ lg (A 0 0) = 1)
def vKa (f : Int → Int) (pl : Int) : Int := if 0 ≤ pl then -1 else f (-1 - pl)
theorem vRest {f k : Int → Int} {p q : Int} (h : ∀ v, (0 ≤ p ∨ v ≠ -1 - p) → (0 ≤ q ∨ v ≠ -1 - q) → f v = k v) : vSet (vSet f q (vKa k q)) p (vKa k p) = k := by
  funext v
  unfold vSet vKa
  by_cases hp : 0 ≤ p
  · rw [if_pos hp]
    by_cases hq : 0 ≤ q
    · rw [if_pos hq]; exact h v (Or.inl hp) (Or.inl hq)
    · rw [if_neg hq, if_neg hq]
      by_cases hv : v = -1 - q
      · subst hv; rw [updI_s]
      · rw [updI_n hv]; exact h v (Or.inl hp) (Or.inr hv)
  · rw [if_neg hp, if_neg hp]
    by_cases hv : v = -1 - p
    · subst hv; rw [updI_s]
    · rw [updI_n hv]
      by_cases hq : 0 ≤ q
      · rw [if_pos hq]; exact h v (Or.inr hv) (Or.inl hq)
      · rw [if_neg hq, if_neg hq]
        by_cases hv2 : v = -1 - q
        · subst hv2; rw [updI_s]
        · rw [updI_n hv2]; exact h v (Or.inr hv) (Or.inr hv2)
theorem vSet_o {f : Int → Int} {p t v : Int} (h : 0 ≤ p ∨ v ≠ -1 - p) : vSet f p t v = f v := by
  unfold vSet
  by_cases hp : 0 ≤ p
  · rw [if_pos hp]
  · rw [if_neg hp, updI_n (by omega)]
section
variable {A : Nat → Int → Nat} {g : Nat → Nat × Int} {tb : Int → Int} {c sz ky mp at_ : Int → Int} {M n : Nat}
theorem vRs_eq {e e' : Nat} {ai : Nat → Int → Int} {uc lg sc : Nat → Int} (h : cntP (vG mp at_ M n) e' = cntP (vG mp at_ M n) e) (R : vRs ky mp at_ M n e ai uc lg sc A) : vRs ky mp at_ M n e' ai uc lg sc A := by
  unfold vRs vUsC at *
  rw [h]; exact R
theorem CVR_kindAt2 {h : HpVR} {mc ac : Int} {post : Int → Prop} {pl : Int} (S : vSh h A g mc ac tb) (hl : -6 ≤ pl) (hp : post (vKa (h.ai (A 20 0)) pl)) : uVR_X32_kindAt post h (A 0 0) pl := by
  unfold vKa at hp
  exact CVR_kindAt S hl (fun z => by rw [if_pos z] at hp; exact hp) (fun z => by rw [if_neg z] at hp; exact hp)
theorem vRK_c {ai ai' : Nat → Int → Int} {mc ac : Int} (F : vFc ai ai' A (vN mc ac)) (hK : vRK ai A ky) : vRK ai' A ky := fun t j a b c d => by rw [F 3 t a b (by omega) (by omega) (by omega) (by omega)]; exact hK t j a b c d
theorem vRM_c {ai ai' : Nat → Int → Int} {mc ac : Int} {pr : Nat → Int} (F : vFc ai ai' A (vN mc ac)) (hM : vRM ai pr A tb mp mc) : vRM ai' pr A tb mp mc := fun m a b => by
  rw [F 7 m a b (by omega) (by omega) (by omega) (by omega), F 8 m a b (by omega) (by omega) (by omega) (by omega)]; exact hM m a b
theorem vRA_c {ai ai' : Nat → Int → Int} {mc ac : Int} {pr : Nat → Int} (F : vFc ai ai' A (vN mc ac)) (hA : vRA ai pr A at_ ac) : vRA ai' pr A at_ ac := fun m a b => by
  rw [F 11 m a b (by omega) (by omega) (by omega) (by omega)]; exact hA m a b
set_option maxHeartbeats 4000000 in
theorem CVR_choose (hn : n ≤ 4) (hM12 : M ≤ 12) : ∀ (d k dn : Nat), k + d = n → d < dn → ∀ (h : HpVR) (I : Nat) (post : (Nat → Int → Int) → (Nat → Int) → (Nat → Int) → (Nat → Int) → Prop), vSh h A g M n tb → vOK c sz mp M → vRK h.ai A ky → vRM h.ai h.mX81_predicate A tb mp M → vRA h.ai h.mX82_predicate A at_ n →
    h.mX32_atomCount (A 0 0) = n → h.mX32_mappingCount (A 0 0) = M → (∀ j : Int, 0 ≤ j → j < k → h.ai (A 19 0) j = dgt M k I j) → vGood mp at_ k (dgt M k I) → vKi mp at_ (dgt M k I) (2 * k) (h.ai (A 20 0)) → (0 < k → 0 < M) →
    (cntP (vG mp at_ M n) (I * M ^ d) ≤ 150 ∧ h.mX32_unionCount (A 0 0) = cntP (vG mp at_ M n) (I * M ^ d) ∧ h.mX32_large (A 0 0) = 0 ∧ vUsC ky mp at_ M n (I * M ^ d) h.ai h.mX34_slotCount A) →
    (∀ ai uc lg sc, vFc h.ai ai A (vN M n) → ai (A 20 0) = h.ai (A 20 0) → (∀ j : Int, 0 ≤ j → j < k → ai (A 19 0) j = h.ai (A 19 0) j) → vRs ky mp at_ M n ((I + 1) * M ^ d) ai uc lg sc A → post ai uc lg sc) →
    uVR_X32_choose dn post h (some (A 0 0)) k := by
  intro d
  induction d with
  | zero =>
    intro k dn hkd hdn h I post S hO hK hM hA en em hch hG hKi hMk hR hp
    have hkn : k = n := by omega
    subst hkn
    obtain ⟨dn', rfl⟩ : ∃ x, dn = x + 1 := ⟨dn - 1, by omega⟩
    unfold uVR_X32_choose
    rw [wpVR_X32_choose]
    rw [Nat.pow_zero, Nat.mul_one] at hR hp
    have hG' : vG mp at_ M k I := hG
    have e1 := cntP_t hG'
    obtain ⟨r1, r2, r3, r4⟩ := hR
    refine kOn_some ⟨S.kd 0 0 (by decide) (by decide) z01, fun _ => ?_, fun z => absurd en.symm z⟩
    refine CVR_keep (tr := dgt M k I) S hn hO hK hM hA en r2 ⟨by omega, by omega⟩ hch (fun j a b => dgt_b (hMk (by omega)) k I j) (fun e => ?_) (fun e ai sc F hT hS hsc => ?_)
    · exact hp _ _ _ _ (fun i j _ _ _ _ _ _ => rfl) rfl (fun j _ _ => rfl) (Or.inr ⟨by omega, by rw [r2]; omega, va_up_self _ _ _⟩)
    · refine hp _ _ _ _ (fun i j u v w1 w2 _ _ => F i j u v (fun q => w1 q.1) (fun q => w2 q.1)) (by rw [F 20 0 (by decide) z01 (by omega) (by omega)]) (fun j _ _ => by rw [F 19 0 (by decide) z01 (by omega) (by omega)]) (Or.inl ⟨by omega, by rw [va_up_self, e1]; omega, r3, ?_⟩)
      intro u hu
      by_cases hue : u = cntP (vG mp at_ M k) I
      · subst hue
        rw [nthP_of hG']
        exact ⟨hT, hS⟩
      · have hu2 : u < cntP (vG mp at_ M k) I := by omega
        have R := r4 u hu2
        have hub : (0 : Int) ≤ (u : Int) ∧ (u : Int) < 150 := by omega
        rw [F 17 u hub.1 hub.2 (by omega) (by omega), F 18 u hub.1 hub.2 (by omega) (by omega), hsc _ (S.lab.ne (i := 16) (i' := 16) hub ⟨by omega, by show _ < (150 : Int); omega⟩ (Or.inr (by omega)))]
        exact R
  | succ d ihd =>
    intro k dn hkd hdn h I post S hO hK hM hA en em hch hG hKi hMk hR hp
    obtain ⟨dn', rfl⟩ : ∃ x, dn = x + 1 := ⟨dn - 1, by omega⟩
    have hkn : (0 : Int) ≤ k ∧ (k : Int) < n := by omega
    unfold uVR_X32_choose
    rw [wpVR_X32_choose]
    have k0 : h.kd (A 0 0) = 1 := S.kd 0 0 (by decide) (by decide) z01
    refine kOn_some ⟨k0, fun z => by rw [en] at z; omega, fun _ => ?_⟩
    have l9 : h.an (A 9 0) = 4 := S.len 9 0 (by decide) (by decide) (by decide) z01
    have l5 : h.an (A 5 0) = 12 := S.len 5 0 (by decide) (by decide) (by decide) z01
    have l11 : h.an (A 11 k) = 2 := S.len 11 k (by decide) (by decide) hkn.1 hkn.2
    have l19 : h.an (A 19 0) = 4 := S.len 19 0 (by decide) (by decide) (by decide) z01
    obtain ⟨a1, a2⟩ := S.atm k hkn.1 hkn.2
    have hAk := hA k hkn.1 hkn.2
    have pl0 : h.ai (A 11 k) 0 = at_ (3 * k + 1) ∧ -6 ≤ at_ (3 * k + 1) := by have := hAk.2 0 (by decide) (by decide); rw [Int.add_zero] at this; exact this
    have pl1 : h.ai (A 11 k) 1 = at_ (3 * k + 2) ∧ -6 ≤ at_ (3 * k + 2) := by have := hAk.2 1 (by decide) (by decide); rw [show 3 * (k : Int) + 1 + 1 = 3 * k + 2 by omega] at this; exact this
    have stp : ∀ m : Nat, (I * M + m) * M ^ d + M ^ d = (I * M + m + 1) * M ^ d := fun m => by rw [Nat.succ_mul]
    have st0 : (I * M + 0) * M ^ d = I * M ^ (d + 1) := by rw [Nat.add_zero, Nat.mul_assoc, Nat.pow_succ, Nat.mul_comm M]
    have stM : (I * M + M) * M ^ d = (I + 1) * M ^ (d + 1) := by rw [← Nat.succ_mul, Nat.mul_assoc, Nat.pow_succ, Nat.mul_comm M]
    refine wl5 _ (fun (m : Int) ai uc lg sc => (0 ≤ m ∧ m ≤ M) ∧ vFc h.ai ai A (vN M n) ∧ ai (A 20 0) = h.ai (A 20 0) ∧ (∀ j : Int, 0 ≤ j → j < k → ai (A 19 0) j = h.ai (A 19 0) j) ∧ vRs ky mp at_ M n ((I * M + m.toNat) * M ^ d) ai uc lg sc A) (fun (m : Int) ai uc lg sc => (M - m).toNat) ?_ 0 h.ai h.mX32_unionCount h.mX32_large h.mX34_slotCount
      ⟨by omega, fun i j _ _ _ _ _ _ => rfl, rfl, fun j _ _ => rfl, Or.inl (by rw [show (0 : Int).toNat = 0 from rfl, st0]; exact hR)⟩
    rintro mi ai uc lg sc ⟨hm, F, e20, hpre, R⟩ f ih
    obtain ⟨m, rfl⟩ : ∃ m : Nat, mi = m := ⟨mi.toNat, by omega⟩
    rw [Int.toNat_natCast] at R
    rw [wVR_X32_choose_15]
    refine kOn_some ⟨k0, ?_⟩
    rw [em]
    refine ⟨fun z => ?_, fun z => ⟨fun zl => ?_, fun zl => ?_⟩⟩
    · have : m = M := by omega
      subst this
      rw [stM] at R
      exact hp ai uc lg sc F e20 hpre R
    rotate_left
    · refine hp ai uc lg sc F e20 hpre (Or.inr ?_)
      rcases R with R | R
      · exact absurd R.2.2.1 zl
      · have := cntP_m (vG mp at_ M n) (show (I * M + m) * M ^ d ≤ (I + 1) * M ^ (d + 1) by rw [← stM]; exact Nat.mul_le_mul_right _ (by omega))
        exact ⟨by omega, R.2⟩
    have R' : cntP (vG mp at_ M n) ((I * M + m) * M ^ d) ≤ 150 ∧ uc (A 0 0) = cntP (vG mp at_ M n) ((I * M + m) * M ^ d) ∧ lg (A 0 0) = 0 ∧ vUsC ky mp at_ M n ((I * M + m) * M ^ d) ai sc A := by
      rcases R with R | R
      · exact R
      · omega
    have hmM : m < M := by omega
    -- this heap
    have S1 : vSh (h.s_ai ai) A g M n tb := S
    have f11 : ai (A 11 k) = h.ai (A 11 k) := F 11 k hkn.1 hkn.2 (by decide) (by decide) (by decide) (by decide)
    -- going on, kinds given back
    have j100 : ∀ ai2 uc2 lg2 sc2, vFc h.ai ai2 A (vN M n) → (∀ v, (0 ≤ at_ (3 * k + 1) ∨ v ≠ -1 - at_ (3 * k + 1)) → (0 ≤ at_ (3 * k + 2) ∨ v ≠ -1 - at_ (3 * k + 2)) → ai2 (A 20 0) v = h.ai (A 20 0) v) → (∀ j : Int, 0 ≤ j → j < k → ai2 (A 19 0) j = h.ai (A 19 0) j) → vRs ky mp at_ M n ((I * M + m + 1) * M ^ d) ai2 uc2 lg2 sc2 A →
        ∀ r11 : Option Nat, r11 = some (A 10 k) → wVR_X32_choose_100 (wVR_X32_choose_15 (wpVR_X32_choose dn') (fun ai_63 mX32_unionCount_64 mX32_large_65 mX34_slotCount_66 => post ai_63 mX32_unionCount_64 mX32_large_65 mX34_slotCount_66) (some (A 0 0)) k h.kd h.an h.ar h.mX32_mappings h.mX32_mappingCount h.mX32_atoms h.mX32_atomCount h.mX32_unions h.mX32_chosen h.mX32_kinds h.mX33_keys h.mX34_mappings h.mX34_slots h.mX81_table h.mX81_predicate h.mX81_templates h.mX81_columns h.mX82_predicate h.mX82_places f)
          (some (A 0 0)) m r11 (vKa (h.ai (A 20 0)) (at_ (3 * k + 1))) (vKa (h.ai (A 20 0)) (at_ (3 * k + 2))) h.kd h.an ai2 uc2 lg2 h.mX32_kinds sc2 h.mX82_places := by
      intro ai2 uc2 lg2 sc2 F2 hk2 hp2 R2 r11 er
      unfold wVR_X32_choose_100
      have g11 : ai2 (A 11 k) = h.ai (A 11 k) := F2 11 k hkn.1 hkn.2 (by decide) (by decide) (by decide) (by decide)
      have n2011 : ∀ w, va_up ai2 (A 20 0) w (A 11 k) = ai2 (A 11 k) := fun w => S.up 20 11 0 k ⟨by decide, z01⟩ hkn (Or.inl (by decide))
      refine kOn_of er ⟨S.kd 10 k (by decide) hkn.1 hkn.2, kOn_of a2 ⟨S.kd 11 k (by decide) hkn.1 hkn.2, by rw [l11]; decide, kOn_some ⟨k0, ?_⟩⟩⟩
      have S2 : vSh (h.s_ai ai2) A g M n tb := S
      refine CVR_setKind (h := h.s_ai ai2) S2 (by rw [g11, pl1.1]; exact pl1.2) ⟨by rw [l11]; decide, ?_⟩
      have ex : (h.s_ai ai2).ai = ai2 := rfl
      rw [ex, g11, pl1.1, n2011, g11, pl0.1]
      have S3 : vSh (h.s_ai (va_up ai2 (A 20 0) (vSet (ai2 (A 20 0)) (at_ (3 * k + 2)) (vKa (h.ai (A 20 0)) (at_ (3 * k + 2)))))) A g M n tb := S
      refine CVR_setKind (h := h.s_ai (va_up ai2 (A 20 0) (vSet (ai2 (A 20 0)) (at_ (3 * k + 2)) (vKa (h.ai (A 20 0)) (at_ (3 * k + 2)))))) S3 pl0.2 ⟨by omega, fun _ e1 => ?_⟩
      have ey : (h.s_ai (va_up ai2 (A 20 0) (vSet (ai2 (A 20 0)) (at_ (3 * k + 2)) (vKa (h.ai (A 20 0)) (at_ (3 * k + 2)))))).ai = va_up ai2 (A 20 0) (vSet (ai2 (A 20 0)) (at_ (3 * k + 2)) (vKa (h.ai (A 20 0)) (at_ (3 * k + 2)))) := rfl
      rw [ey, va_up_self, va_up_up, vRest hk2, e1]
      refine ih _ _ _ _ _ ⟨by omega, fun i j u v w1 w2 w3 w4 => ?_, va_up_self _ _ _, fun j u v => ?_, ?_⟩ (by omega)
      · rw [S.up 20 i 0 j ⟨by decide, z01⟩ ⟨u, v⟩ (Or.inl w4.symm)]; exact F2 i j u v w1 w2 w3 w4
      · rw [S.up 20 19 0 0 ⟨by decide, z01⟩ ⟨by decide, z01⟩ (Or.inl (by decide))]; exact hp2 j u v
      · rw [show ((m : Int) + 1).toNat = m + 1 by omega]
        show vRs ky mp at_ M n ((I * M + m + 1) * M ^ d) _ _ _ _ A
        rcases R2 with R2 | R2
        · refine Or.inl ⟨R2.1, R2.2.1, R2.2.2.1, fun u hu => ?_⟩
          have hub : (0 : Int) ≤ (u : Int) ∧ (u : Int) < 150 := by have := R2.1; have := hu; omega
          rw [S.up 20 17 0 u ⟨by decide, z01⟩ hub (Or.inl (by decide)), S.up 20 18 0 u ⟨by decide, z01⟩ hub (Or.inl (by decide))]
          exact R2.2.2.2 u hu
        · exact Or.inr R2
    -- the digits behind
    have ag1 : ag k (dgt M k I) (dgt M (k + 1) (I * M + m)) := fun j u v => (dgt_r hmM (by omega)).symm
    have dk : dgt M (k + 1) (I * M + m) k = m := dgt_l hmM
    have hti : ∀ i, 0 ≤ i → i ≤ 2 * (k : Int) + 1 → 0 ≤ vTt mp (dgt M (k + 1) (I * M + m)) i := by
      intro i u v
      have b := dgt_b (show 0 < M by omega) (k + 1) (I * M + m) (i / 2)
      exact ((hO.2.2.1 _ b.1 b.2).2.2 (i % 2) (by omega) (by omega)).1.1
    have K0 := vKi_c ag1 hKi
    have fit0 := vKi_fit K0 (by omega) (by rw [vPl_0]; exact pl0.2) (fun i u v => hti i u (by omega))
    rw [vPl_0, vTt_0, dk] at fit0
    have hG1 : vGood mp at_ ((k : Int) + 1) (dgt M (k + 1) (I * M + m)) ↔ vGood mp at_ k (dgt M (k + 1) (I * M + m)) ∧ mp (6 * m + 1) = at_ (3 * k) ∧ vCdi mp at_ (dgt M (k + 1) (I * M + m)) (2 * k) ∧ vCdi mp at_ (dgt M (k + 1) (I * M + m)) (2 * k + 1) := by
      have := vGood_s (mp := mp) (at_ := at_) (tr := dgt M (k + 1) (I * M + m)) hkn.1
      rw [dk] at this
      exact this
    have bad : ¬ vGood mp at_ ((k : Int) + 1) (dgt M (k + 1) (I * M + m)) → vRs ky mp at_ M n ((I * M + m + 1) * M ^ d) ai uc lg sc A := by
      intro w
      refine vRs_eq ?_ (Or.inl R')
      have := cntP_bad (mp := mp) (at_ := at_) (M := M) (k := k + 1) (d := d) (J := I * M + m) (by rw [show ((k + 1 : Nat) : Int) = k + 1 by omega]; exact w)
      rw [show k + 1 + d = n by omega] at this
      exact this
    have fx : ∀ v, (0 ≤ at_ (3 * k + 1) ∨ v ≠ -1 - at_ (3 * k + 1)) → (0 ≤ at_ (3 * k + 2) ∨ v ≠ -1 - at_ (3 * k + 2)) → ai (A 20 0) v = h.ai (A 20 0) v := fun v _ _ => by rw [e20]
    obtain ⟨s1, s2, s3, s4, s5, s6⟩ := S.map m (by omega) (by omega)
    have pm := (hM m (by omega) (by omega)).2.1
    refine kOn_of S.rt.2.2.1 ⟨S.kd 9 0 (by decide) (by decide) z01, by rw [l9]; omega, fun r11 q11 => ?_⟩
    have er := q11.trans a1
    refine kOn_of er ⟨S.kd 10 k (by decide) hkn.1 hkn.2, kOn_of a2 ⟨S.kd 11 k (by decide) hkn.1 hkn.2, by rw [l11]; decide, ?_⟩⟩
    rw [f11, pl0.1, pl1.1]
    refine CVR_kindAt2 (h := h.s_ai ai) S1 pl0.2 ⟨by rw [l11]; decide, CVR_kindAt2 (h := h.s_ai ai) S1 pl1.2 ?_⟩
    have ez : (h.s_ai ai).ai = ai := rfl
    rw [ez, e20]
    refine kOn_of S.rt.2.1 ⟨S.kd 5 0 (by decide) (by decide) z01, by rw [l5]; omega, fun r27 q27 => kOn_of (q27.trans s1) ⟨S.kd 6 m (by decide) (show (0 : Int) ≤ m by omega) (show (m : Int) < M by omega), ?_⟩⟩
    rw [pm, hAk.1]
    refine ⟨fun zp => ?_, fun zp => j100 ai uc lg sc F fx hpre (bad (fun w => zp (hG1.mp w).2.1)) r11 er⟩
    have hM1 := vRM_c F hM
    have hA1 := vRA_c F hA
    refine CVR_fits (h := h.s_ai ai) S1 (by omega) hM1 hA1 hkn ⟨by omega, by omega⟩ er (fun w0 w1 => ⟨fun q => absurd q (by decide), fun _ => ?_⟩) (fun w0 w1 => ⟨fun _ => ?_, fun q => absurd rfl q⟩) (fun w0 => ⟨fun _ => ?_, fun q => absurd rfl q⟩)
    all_goals rw [ez, e20] at w0
    · -- it fits
      rw [ez, e20] at w1 ⊢
      have c0 := fit0.mp w0
      have K1 := vKi_set (by omega) K0 c0
      have fit1 := vKi_fit K1 (by omega) (by rw [vPl_1]; exact pl1.2) hti
      rw [vPl_0, vTt_0, vPl_1, vTt_1, dk] at fit1
      have c1 := fit1.mp w1
      have K2 := vKi_set (by omega) K1 c1
      rw [vPl_0, vTt_0, vPl_1, vTt_1, dk] at K2
      have hGk : vGood mp at_ k (dgt M (k + 1) (I * M + m)) := (vGood_c ag1).mp hG
      have hG2 := hG1.mpr ⟨hGk, zp, c0, c1⟩
      refine kOn_of S.rw.1 ⟨S.kd 19 0 (by decide) (by decide) z01, by rw [l19]; omega, fun ai4 q4 => ⟨by omega, ?_⟩⟩
      have a20 : ai4 (A 20 0) = vSet (vSet (h.ai (A 20 0)) (at_ (3 * k + 1)) (vTp mp m 0)) (at_ (3 * k + 2)) (vTp mp m 1) := by
        rw [q4, S.up 19 20 0 0 ⟨by decide, z01⟩ ⟨by decide, z01⟩ (Or.inl (by decide)), va_up_self]
      have a19 : ai4 (A 19 0) = updI (ai (A 19 0)) k m := by
        rw [q4, va_up_self, S.up 20 19 0 0 ⟨by decide, z01⟩ ⟨by decide, z01⟩ (Or.inl (by decide))]
      have F4' : ∀ i j, 0 ≤ j → j < vN M n i → i ≠ 19 → i ≠ 20 → ai4 (A i j) = ai (A i j) := by
        intro i j u v w3 w4
        rw [q4, S.up 19 i 0 j ⟨by decide, z01⟩ ⟨u, v⟩ (Or.inl w3.symm), S.up 20 i 0 j ⟨by decide, z01⟩ ⟨u, v⟩ (Or.inl w4.symm)]
      have F4 : vFc h.ai ai4 A (vN M n) := fun i j u v x1 x2 x3 x4 => by rw [F4' i j u v x3 x4]; exact F i j u v x1 x2 x3 x4
      have S4 : vSh ((((h.s_ai ai4).s_mX32_unionCount uc).s_mX32_large lg).s_mX34_slotCount sc) A g M n tb := S
      have goal := ihd (k + 1) dn' (by omega) (by omega) ((((h.s_ai ai4).s_mX32_unionCount uc).s_mX32_large lg).s_mX34_slotCount sc) (I * M + m) (fun ai_58 mX32_unionCount_59 mX32_large_60 mX34_slotCount_61 => wVR_X32_choose_100 (wVR_X32_choose_15 (wpVR_X32_choose dn') (fun ai_63 mX32_unionCount_64 mX32_large_65 mX34_slotCount_66 => post ai_63 mX32_unionCount_64 mX32_large_65 mX34_slotCount_66) (some (A 0 0)) k h.kd h.an h.ar h.mX32_mappings h.mX32_mappingCount h.mX32_atoms h.mX32_atomCount h.mX32_unions h.mX32_chosen h.mX32_kinds h.mX33_keys h.mX34_mappings h.mX34_slots h.mX81_table h.mX81_predicate h.mX81_templates h.mX81_columns h.mX82_predicate h.mX82_places f)
          (some (A 0 0)) m r11 (vKa (h.ai (A 20 0)) (at_ (3 * k + 1))) (vKa (h.ai (A 20 0)) (at_ (3 * k + 2))) h.kd h.an ai_58 mX32_unionCount_59 mX32_large_60 h.mX32_kinds mX34_slotCount_61 h.mX82_places)
        S4 hO (vRK_c F4 hK) (vRM_c F4 hM) (vRA_c F4 hA) en em ?_ ?_ ?_ (fun _ => by omega) ?_ ?_
      · rw [show ((k : Int) + 1) = ((k + 1 : Nat) : Int) by omega]
        dsimp only [uVR_X32_choose, HpVR.s_ai, HpVR.s_mX32_unionCount, HpVR.s_mX32_large, HpVR.s_mX34_slotCount, HpVR.ai, HpVR.an, HpVR.ar, HpVR.kd, HpVR.mX32_atomCount, HpVR.mX32_atoms, HpVR.mX32_chosen, HpVR.mX32_kinds, HpVR.mX32_large, HpVR.mX32_mappingCount, HpVR.mX32_mappings, HpVR.mX32_unionCount, HpVR.mX32_unions, HpVR.mX33_keys, HpVR.mX34_mappings, HpVR.mX34_slotCount, HpVR.mX34_slots, HpVR.mX81_columns, HpVR.mX81_predicate, HpVR.mX81_table, HpVR.mX81_templates, HpVR.mX82_places, HpVR.mX82_predicate] at goal
        exact goal
      · intro j u v
        show ai4 (A 19 0) j = _
        rw [a19]
        by_cases hj : j = k
        · subst hj; rw [updI_s, dk]
        · rw [updI_n hj, dgt_r hmM hj, hpre j u (by omega)]; exact hch j u (by omega)
      · rw [show ((k + 1 : Nat) : Int) = k + 1 by omega]; exact hG2
      · show vKi mp at_ _ _ (ai4 (A 20 0))
        rw [a20, show 2 * ((k + 1 : Nat) : Int) = 2 * k + 1 + 1 by omega]
        exact K2
      · refine ⟨R'.1, R'.2.1, R'.2.2.1, fun u hu => ?_⟩
        have hub : (0 : Int) ≤ (u : Int) ∧ (u : Int) < 150 := by have := R'.1; have := hu; omega
        show (∀ j : Int, 0 ≤ j → j < n → ai4 (A 17 u) j = _ ∧ ai4 (A 18 u) j = _) ∧ sc (A 16 u) = _
        rw [F4' 17 u hub.1 hub.2 (by decide) (by decide), F4' 18 u hub.1 hub.2 (by decide) (by decide)]
        exact R'.2.2.2 u hu
      · intro ai5 uc5 lg5 sc5 F5 e5 hp5 R5
        have F5 : vFc ai4 ai5 A (vN M n) := F5
        have e5 : ai5 (A 20 0) = ai4 (A 20 0) := e5
        have hp5 : ∀ j : Int, 0 ≤ j → j < ((k + 1 : Nat) : Int) → ai5 (A 19 0) j = ai4 (A 19 0) j := hp5
        refine j100 ai5 uc5 lg5 sc5 (fun i j u v x1 x2 x3 x4 => by rw [F5 i j u v x1 x2 x3 x4]; exact F4 i j u v x1 x2 x3 x4) (fun v x1 x2 => ?_) (fun j u v => ?_) R5 r11 er
        · rw [e5, a20, vSet_o x2, vSet_o x1]
        · rw [hp5 j u (by omega), a19, updI_n (by omega)]; exact hpre j u v
    · rw [ez, e20] at w1 ⊢
      have c0 := fit0.mp w0
      have K1 := vKi_set (by omega) K0 c0
      have fit1 := vKi_fit K1 (by omega) (by rw [vPl_1]; exact pl1.2) hti
      rw [vPl_0, vTt_0, vPl_1, vTt_1, dk] at fit1
      have B := bad (fun w => w1 (fit1.mpr (hG1.mp w).2.2.2))
      refine j100 _ uc lg sc (fun i j u v x1 x2 x3 x4 => by rw [S.up 20 i 0 j ⟨by decide, z01⟩ ⟨u, v⟩ (Or.inl x4.symm)]; exact F i j u v x1 x2 x3 x4) (fun v x1 x2 => by rw [va_up_self, vSet_o x1]) (fun j u v => by rw [S.up 20 19 0 0 ⟨by decide, z01⟩ ⟨by decide, z01⟩ (Or.inl (by decide))]; exact hpre j u v) ?_ r11 er
      rcases B with B | B
      · refine Or.inl ⟨B.1, B.2.1, B.2.2.1, fun u hu => ?_⟩
        have hub : (0 : Int) ≤ (u : Int) ∧ (u : Int) < 150 := by have := B.1; have := hu; omega
        rw [S.up 20 17 0 u ⟨by decide, z01⟩ hub (Or.inl (by decide)), S.up 20 18 0 u ⟨by decide, z01⟩ hub (Or.inl (by decide))]
        exact B.2.2.2 u hu
      · exact Or.inr B
    · exact j100 ai uc lg sc F fx hpre (bad (fun w => w0 (fit0.mpr (hG1.mp w).2.2.1))) r11 er
end

/-! VirtualRewrite (room VR): unions are made when they are not known -/
section
variable {A : Nat → Int → Nat} {g : Nat → Nat × Int} {tb : Int → Int} {c sz ky mp at_ : Int → Int} {M n : Nat} {h : HpVR}
theorem CVR_make25 {K : (Nat → Int → Int) → Prop} (S : vSh h A g M n tb) (hp : ∀ f : Int → Int, (∀ v, 0 ≤ v → v < 6 → f v = -1) → K (va_up h.ai (A 20 0) f)) : ∃ fu, wVR_X32_make_25 K (A 0 0) h.kd h.an h.mX32_kinds fu 0 h.ai := by
  have l20 : h.an (A 20 0) = 6 := S.len 20 0 (by decide) (by decide) (by decide) z01
  refine zl2 _ (fun v ai => 0 ≤ v ∧ ∃ f : Int → Int, (∀ w, 0 ≤ w → w < v → f w = -1) ∧ ai = va_up h.ai (A 20 0) f) 6 ?_ ⟨by omega, h.ai (A 20 0), fun w a b => by omega, (va_up_id rfl).symm⟩ (by decide)
  rintro q v ai ⟨hv, f, hf, rfl⟩ hN ih
  rw [wVR_X32_make_25]
  refine ⟨fun z => hp f (fun w a b => hf w a (by omega)), fun z => kOn_of S.rw.2.1 ⟨S.kd 20 0 (by decide) (by decide) z01, by rw [l20]; omega, fun _ e1 => ⟨by omega, fun _ e2 => ?_⟩⟩⟩
  subst e1 e2
  rw [va_up_self, va_up_up]
  refine ih _ (by omega) ⟨by omega, _, fun w a b => ?_, rfl⟩
  by_cases hw : w = v
  · subst hw; rw [updI_s]
  · rw [updI_n hw]; exact hf w a (by omega)
theorem CVR_make {post : (Nat → Int → Int) → (Nat → Int) → (Nat → Int) → (Nat → Int) → (Nat → Int) → Prop} (hn : n ≤ 4) (hM12 : M ≤ 12) (S : vSh h A g M n tb) (hO : vOK c sz mp M) (hK : vRK h.ai A ky) (hM : vRM h.ai h.mX81_predicate A tb mp M) (hA : vRA h.ai h.mX82_predicate A at_ n)
    (en : h.mX32_atomCount (A 0 0) = n) (em : h.mX32_mappingCount (A 0 0) = M) (hk : ¬ h.mX32_known (A 0 0) = 0 → vRs ky mp at_ M n (M ^ n) h.ai h.mX32_unionCount h.mX32_large h.mX34_slotCount A)
    (hp : ∀ ai uc lg kn sc, vFc h.ai ai A (vN M n) → ¬ kn (A 0 0) = 0 → vRs ky mp at_ M n (M ^ n) ai uc lg sc A → post ai uc lg kn sc) : uVR_X32_make post h (A 0 0) := by
  unfold uVR_X32_make wpVR_X32_make
  refine ⟨fun z kn e1 uc e2 lg e3 => CVR_make25 S (fun f hf => ?_), fun z => hp _ _ _ _ _ (fun i j _ _ _ _ _ _ => rfl) z (hk z)⟩
  have F : vFc h.ai (va_up h.ai (A 20 0) f) A (vN M n) := fun i j u v x1 x2 x3 x4 => S.up 20 i 0 j ⟨by decide, z01⟩ ⟨u, v⟩ (Or.inl x4.symm)
  have S2 : vSh ((((h.s_ai (va_up h.ai (A 20 0) f)).s_mX32_unionCount uc).s_mX32_large lg).s_mX34_slotCount h.mX34_slotCount) A g M n tb := S
  have goal := CVR_choose (A := A) (g := g) (tb := tb) (c := c) (sz := sz) (ky := ky) (mp := mp) (at_ := at_) hn hM12 n 0 5 (by omega) (by omega) ((((h.s_ai (va_up h.ai (A 20 0) f)).s_mX32_unionCount uc).s_mX32_large lg).s_mX34_slotCount h.mX34_slotCount) 0
    (fun ai_13 mX32_unionCount_14 mX32_large_15 mX34_slotCount_16 => post ai_13 mX32_unionCount_14 mX32_large_15 kn mX34_slotCount_16) S2 hO (vRK_c F hK) (vRM_c F hM) (vRA_c F hA) en em (fun j a b => by omega) ⟨fun k a b => by omega, fun i a b => by omega⟩ ?_ (fun q => by omega) ?_ ?_
  · dsimp only [uVR_X32_choose, HpVR.s_ai, HpVR.s_mX32_unionCount, HpVR.s_mX32_large, HpVR.s_mX34_slotCount, HpVR.ai, HpVR.an, HpVR.ar, HpVR.kd, HpVR.mX32_atomCount, HpVR.mX32_atoms, HpVR.mX32_chosen, HpVR.mX32_kinds, HpVR.mX32_large, HpVR.mX32_mappingCount, HpVR.mX32_mappings, HpVR.mX32_unionCount, HpVR.mX32_unions, HpVR.mX33_keys, HpVR.mX34_mappings, HpVR.mX34_slotCount, HpVR.mX34_slots, HpVR.mX81_columns, HpVR.mX81_predicate, HpVR.mX81_table, HpVR.mX81_templates, HpVR.mX82_places, HpVR.mX82_predicate] at goal
    exact goal
  · intro v a b
    refine ⟨fun i c d => by omega, fun _ => ?_⟩
    show va_up h.ai (A 20 0) f (A 20 0) v = -1
    rw [va_up_self]; exact hf v a b
  · rw [Nat.zero_mul]
    refine ⟨by simp [cntP], ?_, ?_, fun u hu => by simp [cntP] at hu⟩
    · show uc (A 0 0) = _
      rw [e2, va_up_self]; rfl
    · show lg (A 0 0) = 0
      rw [e3, va_up_self]
  · intro ai uc2 lg2 sc2 F2 _ _ R
    rw [Nat.zero_add, Nat.one_mul] at R
    have F2 : vFc (va_up h.ai (A 20 0) f) ai A (vN M n) := F2
    refine hp ai uc2 lg2 kn sc2 (fun i j u v x1 x2 x3 x4 => by rw [F2 i j u v x1 x2 x3 x4]; exact F i j u v x1 x2 x3 x4) (by rw [e1, va_up_self]; decide) R
theorem CVR_ready {post : Int → (Nat → Int → Int) → (Nat → Int) → (Nat → Int) → (Nat → Int) → (Nat → Int) → Prop} (hn : n ≤ 4) (hM12 : M ≤ 12) (S : vSh h A g M n tb) (hO : vOK c sz mp M) (hK : vRK h.ai A ky) (hM : vRM h.ai h.mX81_predicate A tb mp M) (hA : vRA h.ai h.mX82_predicate A at_ n)
    (en : h.mX32_atomCount (A 0 0) = n) (em : h.mX32_mappingCount (A 0 0) = M) (hk : ¬ h.mX32_known (A 0 0) = 0 → vRs ky mp at_ M n (M ^ n) h.ai h.mX32_unionCount h.mX32_large h.mX34_slotCount A)
    (h0 : n = 0 → post (-1) h.ai h.mX32_unionCount h.mX32_large h.mX32_known h.mX34_slotCount)
    (h3 : 0 < n → 150 < vUc mp at_ M n → ∀ ai uc lg kn sc, vFc h.ai ai A (vN M n) → ¬ kn (A 0 0) = 0 → vRs ky mp at_ M n (M ^ n) ai uc lg sc A → post (-3) ai uc lg kn sc)
    (h1 : 0 < n → vUc mp at_ M n ≤ 150 → ∀ ai uc lg kn sc, vFc h.ai ai A (vN M n) → ¬ kn (A 0 0) = 0 → vRs ky mp at_ M n (M ^ n) ai uc lg sc A → uc (A 0 0) = vUc mp at_ M n → vUsC ky mp at_ M n (M ^ n) ai sc A → post 0 ai uc lg kn sc) : uVR_X32_ready post h (A 0 0) := by
  unfold uVR_X32_ready wpVR_X32_ready
  rw [en]
  refine ⟨fun z => h0 (by omega), fun z => CVR_make hn hM12 S hO hK hM hA en em hk (fun ai uc lg kn sc F hkn R => ⟨fun y => ?_, fun y => ?_⟩)⟩
  · rcases R with R | R
    · exact h1 (by omega) R.1 ai uc lg kn sc F hkn (Or.inl R) R.2.1 R.2.2.2
    · omega
  · rcases R with R | R
    · exact absurd R.2.2.1 y
    · exact h3 (by omega) R.1 ai uc lg kn sc F hkn (Or.inr R)
end

/-! VirtualRewrite (room VR): what is told of unions -/
section
variable {A : Nat → Int → Nat} {g : Nat → Nat × Int} {tb : Int → Int} {c sz ky mp at_ : Int → Int} {M n : Nat} {h : HpVR}
theorem vUsC.at {ai : Nat → Int → Int} {sc : Nat → Int} (hU : vUsC ky mp at_ M n (M ^ n) ai sc A) {u : Int} (h0 : 0 ≤ u) (h1 : u < vUc mp at_ M n) : (∀ j : Int, 0 ≤ j → j < n → ai (A 17 u) j = uTr mp at_ M n u j ∧ ai (A 18 u) j = (uSl ky mp at_ M n u).1 j) ∧ sc (A 16 u) = (uSl ky mp at_ M n u).2 := by
  have := hU u.toNat (by unfold vUc at h1; omega)
  rw [Int.toNat_of_nonneg h0] at this
  exact this
/-- all that the room holds but the unions, for what is told by 'ready' -/
def vAll (h : HpVR) (A : Nat → Int → Nat) (g : Nat → Nat × Int) (tb c sz ky mp at_ : Int → Int) (M n : Nat) : Prop := (n ≤ 4 ∧ M ≤ 12) ∧ vSh h A g M n tb ∧ vOK c sz mp M ∧ vRK h.ai A ky ∧ vRM h.ai h.mX81_predicate A tb mp M ∧ vRA h.ai h.mX82_predicate A at_ n ∧ h.mX32_atomCount (A 0 0) = n ∧ h.mX32_mappingCount (A 0 0) = M ∧
  (¬ h.mX32_known (A 0 0) = 0 → vRs ky mp at_ M n (M ^ n) h.ai h.mX32_unionCount h.mX32_large h.mX34_slotCount A)
theorem CVR_readyR {post : Int → (Nat → Int → Int) → (Nat → Int) → (Nat → Int) → (Nat → Int) → (Nat → Int) → Prop} (H : vAll h A g tb c sz ky mp at_ M n)
    (h0 : vRdy mp at_ M n < 0 → ∀ ai uc lg kn sc, vFc h.ai ai A (vN M n) → (¬ kn (A 0 0) = 0 → vRs ky mp at_ M n (M ^ n) ai uc lg sc A) → post (vRdy mp at_ M n) ai uc lg kn sc)
    (h1 : vRdy mp at_ M n = 1 → 0 < n → vUc mp at_ M n ≤ 150 → ∀ ai uc lg kn sc, vFc h.ai ai A (vN M n) → (¬ kn (A 0 0) = 0 → vRs ky mp at_ M n (M ^ n) ai uc lg sc A) → uc (A 0 0) = vUc mp at_ M n → vUsC ky mp at_ M n (M ^ n) ai sc A → post 0 ai uc lg kn sc) : uVR_X32_ready post h (A 0 0) := by
  obtain ⟨⟨hn, hM12⟩, S, hO, hK, hM, hA, en, em, hk⟩ := H
  refine CVR_ready hn hM12 S hO hK hM hA en em hk (fun e => ?_) (fun e1 e2 ai uc lg kn sc F k R => ?_) (fun e1 e2 ai uc lg kn sc F k R eu hU => ?_)
  · have e0 : vRdy mp at_ M n = -1 := by unfold vRdy; rw [if_pos e]
    rw [e0] at h0
    exact h0 (by decide) _ _ _ _ _ (fun i j _ _ _ _ _ _ => rfl) hk
  · have e0 : vRdy mp at_ M n = -3 := by unfold vRdy; unfold vUc at e2; rw [if_neg (by omega), if_pos e2]
    rw [e0] at h0
    exact h0 (by decide) ai uc lg kn sc F (fun _ => R)
  · have e0 : vRdy mp at_ M n = 1 := by unfold vRdy; rw [if_neg (by omega), if_neg (by unfold vUc at e2; omega)]
    exact h1 e0 e1 e2 ai uc lg kn sc F (fun _ => R) eu hU
theorem CVR_unions {post : Int → (Nat → Int → Int) → (Nat → Int) → (Nat → Int) → (Nat → Int) → (Nat → Int) → Prop} (H : vAll h A g tb c sz ky mp at_ M n)
    (hp : ∀ ai uc lg kn sc, vFc h.ai ai A (vN M n) → (¬ kn (A 0 0) = 0 → vRs ky mp at_ M n (M ^ n) ai uc lg sc A) → post (if vRdy mp at_ M n < 0 then vRdy mp at_ M n else vUc mp at_ M n) ai uc lg kn sc) : uVR_X32_unions post h (A 0 0) := by
  unfold uVR_X32_unions wpVR_X32_unions
  refine CVR_readyR H (fun e ai uc lg kn sc F R => ⟨fun z => by omega, fun _ => ?_⟩) (fun e e1 e2 ai uc lg kn sc F R eu hU => ⟨fun _ => ?_, fun z => absurd (by decide) z⟩)
  · rw [if_pos e] at hp; exact hp ai uc lg kn sc F R
  · rw [if_neg (by omega)] at hp; rw [eu]; exact hp ai uc lg kn sc F R
theorem CVR_union {post : Int → (Nat → Int → Int) → (Nat → Int) → (Nat → Int) → (Nat → Int) → (Nat → Int) → Prop} {i w : Int} (H : vAll h A g tb c sz ky mp at_ M n)
    (hp : ∀ ai uc lg kn sc, vFc h.ai ai A (vN M n) → (¬ kn (A 0 0) = 0 → vRs ky mp at_ M n (M ^ n) ai uc lg sc A) → post (vUnion ky mp at_ M n i w) ai uc lg kn sc) : uVR_X32_union post h (A 0 0) i w := by
  have S : vSh h A g M n tb := H.2.1
  have en : h.mX32_atomCount (A 0 0) = n := H.2.2.2.2.2.2.1
  have hn := H.1.1
  unfold uVR_X32_union wpVR_X32_union
  unfold vUnion at hp
  refine CVR_readyR H (fun e ai uc lg kn sc F R => ⟨fun z => by omega, fun _ => ?_⟩) (fun e e1 e2 ai uc lg kn sc F R eu hU => ⟨fun _ => ?_, fun z => absurd (by decide) z⟩)
  · rw [if_pos e] at hp; exact hp ai uc lg kn sc F R
  rw [if_neg (by omega)] at hp
  rw [eu, en]
  have no : ¬ ((0 ≤ i ∧ i < vUc mp at_ M n) ∧ (0 ≤ w ∧ w < 9) ∧ ¬ (w < 8 ∧ (n : Int) ≤ w % 4)) → post (-1) ai uc lg kn sc := fun q => by
    rw [if_neg q] at hp; exact hp ai uc lg kn sc F R
  refine CVR_isInB (fun i1 i2 => CVR_isInB (fun w1 w2 => ?_) (fun z => no (fun q => z q.2.1))) (fun z => no (fun q => z q.1))
  have hu := hU.at i1 i2
  have l15 : h.an (A 15 0) = 150 := S.len 15 0 (by decide) (by decide) (by decide) z01
  have hi' : 0 ≤ i ∧ i < 150 := by omega
  have l17 : h.an (A 17 i) = 4 := S.len 17 i (by decide) (by decide) hi'.1 hi'.2
  have l18 : h.an (A 18 i) = 4 := S.len 18 i (by decide) (by decide) hi'.1 hi'.2
  obtain ⟨s1, s2, s3⟩ := S.uni i hi'.1 hi'.2
  have k15 : h.kd (A 15 0) = 11 := S.kd 15 0 (by decide) (by decide) z01
  have k16 : h.kd (A 16 i) = 3 := S.kd 16 i (by decide) hi'.1 hi'.2
  have j49 : ¬ (w < 8 ∧ (n : Int) ≤ w % 4) → wVR_X32_union_49 post (A 0 0) i w h.kd h.an ai h.ar h.mX32_unions uc lg kn h.mX34_mappings h.mX34_slots sc := by
    intro q
    rw [if_pos ⟨⟨i1, i2⟩, ⟨w1, w2⟩, q⟩] at hp
    have hp := hp ai uc lg kn sc F R
    unfold wVR_X32_union_49
    refine ⟨fun y => ⟨fun y2 => kOn_of S.rt.2.2.2 ⟨k15, by rw [l15]; omega, fun r er => kOn_of (er.trans s1) ⟨k16, ?_⟩⟩, fun y2 => kOn_of S.rt.2.2.2 ⟨k15, by rw [l15]; omega, fun r er => kOn_of (er.trans s1) ⟨k16, kOn_of s3 ⟨S.kd 18 i (by decide) hi'.1 hi'.2, by rw [l18]; omega, by omega, ?_⟩⟩⟩⟩, fun y => kOn_of S.rt.2.2.2 ⟨k15, by rw [l15]; omega, fun r er => kOn_of (er.trans s1) ⟨k16, kOn_of s2 ⟨S.kd 17 i (by decide) hi'.1 hi'.2, by rw [l17]; omega, ?_⟩⟩⟩⟩
    · rw [if_neg (by omega), if_neg (by omega)] at hp; rw [hu.2]; exact hp
    · rw [if_neg (by omega), if_pos (by omega)] at hp; rw [(hu.1 _ (by omega) (by omega)).2]; exact hp
    · rw [if_pos (by omega)] at hp; rw [(hu.1 _ w1 (by omega)).1]; exact hp
  refine ⟨fun y => j49 (by omega), fun y => ⟨w1, fun y2 => j49 (by omega), fun y2 => no (fun q => q.2.2 (by omega))⟩⟩
theorem CVR_firstB {P Q : Prop} {u k : Int} {sl : Int → Int} {r : Option Nat} (S : vSh h A g M n tb) (hu : 0 ≤ u ∧ u < 150) (hk : 0 ≤ k ∧ k < 4) (er : r = some (A 16 u)) (hs : ∀ j, 0 ≤ j → j ≤ k → h.ai (A 18 u) j = sl j) (h1 : uFirst sl k → Q) (h0 : ¬ uFirst sl k → P) : uVR_X32_isFirstOfSlot (fun r => (r = 0 → P) ∧ (¬ r = 0 → Q)) h r k := by
  unfold uVR_X32_isFirstOfSlot wpVR_X32_isFirstOfSlot
  have l18 : h.an (A 18 u) = 4 := S.len 18 u (by decide) (by decide) hu.1 hu.2
  obtain ⟨s1, s2, s3⟩ := S.uni u hu.1 hu.2
  refine wl2 _ (fun x i => (0 ≤ i ∧ i ≤ k) ∧ ((x = 1 ∧ ∀ j, 0 ≤ j → j < i → sl j ≠ sl k) ∨ (x = 0 ∧ ¬ uFirst sl k))) (fun x i => (k - i).toNat) ?_ 1 0 ⟨by omega, Or.inl ⟨rfl, fun j a b => by omega⟩⟩
  rintro x i ⟨hi, hx⟩ f ih
  rw [wVR_X32_isFirstOfSlot_4]
  refine ⟨fun z => ?_, fun z => ⟨fun e => ⟨by omega, fun _ e1 => ?_⟩, fun e => kOn_of er ⟨S.kd 16 u (by decide) hu.1 hu.2, kOn_of s3 ⟨S.kd 18 u (by decide) hu.1 hu.2, by rw [l18]; omega, by rw [l18]; omega, ?_⟩⟩⟩⟩
  · rcases hx with ⟨rfl, hx⟩ | ⟨rfl, hx⟩
    · exact ⟨Or.inr rfl, fun q => absurd q (by decide), fun _ => h1 (fun j a b => hx j a (by omega))⟩
    · exact ⟨Or.inl rfl, fun _ => h0 hx, fun q => absurd rfl q⟩
  · subst e1
    rcases hx with ⟨e2, _⟩ | ⟨_, hx⟩
    · omega
    · exact ih _ _ ⟨by omega, Or.inr ⟨rfl, hx⟩⟩ (by omega)
  · have hx2 : ∀ j, 0 ≤ j → j < i → sl j ≠ sl k := by
      rcases hx with ⟨_, hx⟩ | ⟨e2, _⟩
      · exact hx
      · exact absurd e2 e
    rw [hs i hi.1 hi.2, hs k hk.1 (Int.le_refl _)]
    refine ⟨fun y => ⟨by omega, fun _ e1 => ?_⟩, fun y => ⟨by omega, fun _ e1 => ?_⟩⟩
    · subst e1
      exact ih _ _ ⟨by omega, Or.inr ⟨rfl, fun q => q i hi.1 (by omega) y⟩⟩ (by omega)
    · subst e1
      refine ih _ _ ⟨by omega, Or.inl ⟨rfl, fun j a b => ?_⟩⟩ (by omega)
      by_cases hj : j = i
      · subst hj; exact y
      · exact hx2 j a (by omega)
end

/-! VirtualRewrite (room VR): estimate; what is given to variables -/
section
variable {A : Nat → Int → Nat} {g : Nat → Nat × Int} {tb : Int → Int} {c sz ky mp at_ : Int → Int} {M n : Nat} {h : HpVR}
theorem CVR_estimate {post : Int → (Nat → Int → Int) → (Nat → Int) → (Nat → Int) → (Nat → Int) → (Nat → Int) → Prop} {i : Int} (H : vAll h A g tb c sz ky mp at_ M n) (hz : vRZ h.mX33_size A sz)
    (hp : ∀ ai uc lg kn sc, vFc h.ai ai A (vN M n) → (¬ kn (A 0 0) = 0 → vRs ky mp at_ M n (M ^ n) ai uc lg sc A) → post (vEst sz ky mp at_ M n i) ai uc lg kn sc) : uVR_X32_estimate post h (A 0 0) i := by
  have S : vSh h A g M n tb := H.2.1
  have en : h.mX32_atomCount (A 0 0) = n := H.2.2.2.2.2.2.1
  have hM := H.2.2.2.2.1
  have hO := H.2.2.1
  have hn := H.1.1
  have hM12 := H.1.2
  unfold uVR_X32_estimate wpVR_X32_estimate
  unfold vEst at hp
  refine CVR_readyR H (fun e ai uc lg kn sc F R => ⟨fun z => by omega, fun _ => ?_⟩) (fun e e1 e2 ai uc lg kn sc F R eu hU => ⟨fun _ => ?_, fun z => absurd (by decide) z⟩)
  · rw [if_pos e] at hp; exact hp ai uc lg kn sc F R
  rw [if_neg (by omega)] at hp
  rw [eu]
  refine CVR_isInB (fun i1 i2 => ?_) (fun z => by rw [if_neg z] at hp; exact hp ai uc lg kn sc F R)
  rw [if_pos ⟨i1, i2⟩] at hp
  have hu := hU.at i1 i2
  have hb := uTr_b i1 i2 e1
  have l15 : h.an (A 15 0) = 150 := S.len 15 0 (by decide) (by decide) (by decide) z01
  have l5 : h.an (A 5 0) = 12 := S.len 5 0 (by decide) (by decide) (by decide) z01
  have hi' : 0 ≤ i ∧ i < 150 := by omega
  have l17 : h.an (A 17 i) = 4 := S.len 17 i (by decide) (by decide) hi'.1 hi'.2
  obtain ⟨s1, s2, s3⟩ := S.uni i hi'.1 hi'.2
  have k15 : h.kd (A 15 0) = 11 := S.kd 15 0 (by decide) (by decide) z01
  have k16 : h.kd (A 16 i) = 3 := S.kd 16 i (by decide) hi'.1 hi'.2
  have S2 : vSh (h.s_ai ai) A g M n tb := S
  refine wl2 _ (fun x3 (x4 : Int) => (0 ≤ x4 ∧ x4 ≤ n) ∧ x3 = vEs sz mp (uTr mp at_ M n i) (uSl ky mp at_ M n i).1 x4.toNat ∧ (0 ≤ x3 ∧ x3 ≤ 20 ^ x4.toNat)) (fun x3 (x4 : Int) => (n - x4).toNat) ?_ 1 0 ⟨by omega, rfl, by decide⟩
  rintro x3 x4 ⟨hk, e3, h3⟩ q ih
  rw [wVR_X32_estimate_29, en]
  have hpow : (20 : Int) ^ x4.toNat ≤ 20 ^ 4 := by
    have : x4.toNat ≤ 4 := by omega
    generalize x4.toNat = y at this
    have : y = 0 ∨ y = 1 ∨ y = 2 ∨ y = 3 ∨ y = 4 := by omega
    rcases this with rfl | rfl | rfl | rfl | rfl <;> decide
  refine ⟨fun z => ?_, fun z => kOn_of S.rt.2.2.2 ⟨k15, by rw [l15]; omega, fun r16 q16 => ?_⟩⟩
  · have : x4 = n := by omega
    subst this
    rw [Int.toNat_natCast] at e3
    rw [e3]
    exact hp ai uc lg kn sc F R
  have en1 : (x4 + 1).toNat = x4.toNat + 1 := by omega
  have en2 : ((x4.toNat : Nat) : Int) = x4 := by omega
  refine CVR_firstB (h := h.s_ai ai) (sl := (uSl ky mp at_ M n i).1) S2 hi' ⟨hk.1, by omega⟩ (q16.trans s1) (fun j a b => (hu.1 j a (by omega)).2) (fun hf r22 q22 => ?_) (fun hf => ⟨by omega, fun _ e1 => ?_⟩)
  · have hbx := hb x4
    obtain ⟨m1, m2, m3, m4, m5, m6⟩ := S.map _ hbx.1 hbx.2
    have t1 := (hM _ hbx.1 hbx.2).1
    obtain ⟨o1, o2, o3⟩ := hO.2.2.1 _ hbx.1 hbx.2
    have hz1 := hO.2.1 _ o1.1 o1.2
    refine kOn_of (q22.trans s1) ⟨k16, kOn_of s2 ⟨S.kd 17 i (by decide) hi'.1 hi'.2, by rw [l17]; omega, kOn_of S.rt.2.1 ⟨S.kd 5 0 (by decide) (by decide) z01, ?_⟩⟩⟩
    rw [(hu.1 x4 hk.1 (by omega)).1, l5]
    refine ⟨by omega, fun r32 q32 => kOn_of (q32.trans m1) ⟨S.kd 6 _ (by decide) hbx.1 hbx.2, kOn_of m2 ⟨S.kd 1 _ (by decide) m5 m6, ?_⟩⟩⟩
    rw [hz _ m5 m6, t1]
    have p1 : 0 ≤ x3 * sz (mp (6 * uTr mp at_ M n i x4)) := Int.mul_nonneg h3.1 hz1.1
    have p2 : x3 * sz (mp (6 * uTr mp at_ M n i x4)) ≤ 20 ^ x4.toNat * 20 := Int.mul_le_mul h3.2 hz1.2 hz1.1 (by have := h3.1; omega)
    have p3 : (20 : Int) ^ 4 = 160000 := by decide
    refine ⟨by omega, fun _ e1 => ⟨by omega, fun _ e2 => ?_⟩⟩
    subst e1 e2
    refine ih _ _ ⟨by omega, ?_, p1, ?_⟩ (by omega)
    · rw [en1, vEs, en2, pif_t hf, e3]
    · rw [en1, Int.pow_succ]; exact p2
  · subst e1
    refine ih _ _ ⟨by omega, ?_, h3.1, ?_⟩ (by omega)
    · rw [en1, vEs, en2, pif_f hf, e3]
    · rw [en1, Int.pow_succ]
      have : (0 : Int) ≤ 20 ^ x4.toNat := by omega
      omega
theorem CVR_givenAt {post : Int → Prop} {pl : Int} (S : vSh h A g M n tb) (hl : -6 ≤ pl) (hp : post (vKa (h.ai (A 21 0)) pl)) : uVR_X32_givenAt post h (A 0 0) pl := by
  unfold uVR_X32_givenAt wpVR_X32_givenAt
  have e21 : h.an (A 21 0) = 6 := S.len 21 0 (by decide) (by decide) (by decide) z01
  unfold vKa at hp
  exact ⟨fun z => by rw [if_pos z] at hp; exact hp, fun z => kOn_of S.rw.2.2.1 ⟨S.kd 21 0 (by decide) (by decide) z01, by rw [e21]; omega, by omega, by rw [if_neg z] at hp; exact hp⟩⟩
theorem CVR_setGiven {post : (Nat → Int → Int) → Prop} {pl t : Int} (S : vSh h A g M n tb) (hl : -6 ≤ pl) (hp : post (va_up h.ai (A 21 0) (vSet (h.ai (A 21 0)) pl t))) : uVR_X32_setGiven post h (A 0 0) pl t := by
  unfold uVR_X32_setGiven wpVR_X32_setGiven
  have e21 : h.an (A 21 0) = 6 := S.len 21 0 (by decide) (by decide) (by decide) z01
  unfold vSet at hp
  refine ⟨fun z => ?_, fun z => kOn_of S.rw.2.2.1 ⟨S.kd 21 0 (by decide) (by decide) z01, by rw [e21]; omega, by omega, fun _ e => ?_⟩⟩
  · rw [if_pos z, va_up_id rfl] at hp; exact hp
  · rw [if_neg z] at hp; subst e; exact hp
/-- what the spans hold -/
def vRS (ai : Nat → Int → Int) (A : Nat → Int → Nat) (sp : Int → Int) (sc : Int) : Prop := ∀ k, 0 ≤ k → k < sc → ai (A 12 0) k = sp (3 * k) ∧ ai (A 13 0) k = sp (3 * k + 1) ∧ ai (A 14 0) k = sp (3 * k + 2)
/-- a code lies within all spans of a variable -/
def vIn (sp : Int → Int) (sc v cd : Int) : Prop := ∀ s, 0 ≤ s → s < sc → sp (3 * s) = v → sp (3 * s + 1) ≤ cd % 10000 ∧ cd % 10000 ≤ sp (3 * s + 2)
theorem CVR_takes51 {K : Int → Prop} {sp : Int → Int} {sc v cd : Int} (S : vSh h A g M n tb) (hs : 0 ≤ sc ∧ sc ≤ 4) (es : h.mX32_spans (A 0 0) = sc) (hS : vRS h.ai A sp sc) (hc : 0 ≤ cd) (k1 : vIn sp sc v cd → K 1) (k0 : ¬ vIn sp sc v cd → K 0) :
    ∃ fu, wVR_X32_takes_51 K (A 0 0) cd v h.kd h.an h.ai h.mX32_spanOf h.mX32_spanFrom h.mX32_spanTo h.mX32_spans fu 1 0 := by
  have l12 : h.an (A 12 0) = 4 := S.len 12 0 (by decide) (by decide) (by decide) z01
  have l13 : h.an (A 13 0) = 4 := S.len 13 0 (by decide) (by decide) (by decide) z01
  have l14 : h.an (A 14 0) = 4 := S.len 14 0 (by decide) (by decide) (by decide) z01
  refine wl2 _ (fun x i => (0 ≤ i ∧ i ≤ sc) ∧ ((x = 1 ∧ ∀ s, 0 ≤ s → s < i → sp (3 * s) = v → sp (3 * s + 1) ≤ cd % 10000 ∧ cd % 10000 ≤ sp (3 * s + 2)) ∨ (x = 0 ∧ ¬ vIn sp sc v cd))) (fun x i => (sc - i).toNat) ?_ 1 0 ⟨by omega, Or.inl ⟨rfl, fun s a b => by omega⟩⟩
  rintro x i ⟨hi, hx⟩ f ih
  rw [wVR_X32_takes_51, es]
  refine ⟨fun z => ?_, fun z => ⟨fun e => ⟨by omega, fun _ e1 => ?_⟩, fun e => kOn_of S.rs.1 ⟨S.kd 12 0 (by decide) (by decide) z01, by rw [l12]; omega, ?_⟩⟩⟩
  · rcases hx with ⟨rfl, hx⟩ | ⟨rfl, hx⟩
    · exact k1 (fun s a b => hx s a (by omega))
    · exact k0 hx
  · subst e1
    rcases hx with ⟨e2, _⟩ | ⟨_, hx⟩
    · omega
    · exact ih _ _ ⟨by omega, Or.inr ⟨rfl, hx⟩⟩ (by omega)
  · have hx2 : ∀ s, 0 ≤ s → s < i → sp (3 * s) = v → sp (3 * s + 1) ≤ cd % 10000 ∧ cd % 10000 ≤ sp (3 * s + 2) := by
      rcases hx with ⟨_, hx⟩ | ⟨e2, _⟩
      · exact hx
      · exact absurd e2 e
    have hSi := hS i hi.1 (by omega)
    have nx1 : (sp (3 * i) = v → sp (3 * i + 1) ≤ cd % 10000 ∧ cd % 10000 ≤ sp (3 * i + 2)) → (zR (i + 1) ∧ ∀ y : Int, y = i + 1 → wVR_X32_takes_51 K (A 0 0) cd v h.kd h.an h.ai h.mX32_spanOf h.mX32_spanFrom h.mX32_spanTo h.mX32_spans f 1 y) := by
      intro w
      refine ⟨by omega, fun _ e1 => ?_⟩
      subst e1
      refine ih _ _ ⟨by omega, Or.inl ⟨rfl, fun s a b => ?_⟩⟩ (by omega)
      by_cases hs : s = i
      · subst hs; exact w
      · exact hx2 s a (by omega)
    have nx0 : ¬ (sp (3 * i) = v → sp (3 * i + 1) ≤ cd % 10000 ∧ cd % 10000 ≤ sp (3 * i + 2)) → (zR (i + 1) ∧ ∀ y : Int, y = i + 1 → wVR_X32_takes_51 K (A 0 0) cd v h.kd h.an h.ai h.mX32_spanOf h.mX32_spanFrom h.mX32_spanTo h.mX32_spans f 0 y) := by
      intro w
      refine ⟨by omega, fun _ e1 => ?_⟩
      subst e1
      exact ih _ _ ⟨by omega, Or.inr ⟨rfl, fun q => w (q i hi.1 (by omega))⟩⟩ (by omega)
    rw [hSi.1]
    refine ⟨fun y => ⟨hc, kOn_of S.rs.2.1 ⟨S.kd 13 0 (by decide) (by decide) z01, by rw [l13]; omega, ?_⟩⟩, fun y => nx1 (fun w => absurd w y)⟩
    rw [hSi.2.1]
    refine ⟨fun y2 => nx0 (fun w => by have := w y; omega), fun y2 => kOn_of S.rs.2.2 ⟨S.kd 14 0 (by decide) (by decide) z01, by rw [l14]; omega, ?_⟩⟩
    rw [hSi.2.2]
    exact ⟨fun y3 => nx0 (fun w => by have := w y; omega), fun y3 => nx1 (fun _ => by omega)⟩
/-- whether a term may stand at a place, by what is given -/
def vTk (f sp : Int → Int) (sc pl cd : Int) : Prop := if 0 ≤ pl then pl = cd else if f (-1 - pl) = -1 then vIn sp sc (-1 - pl) cd else f (-1 - pl) = cd
theorem CVR_takes {post : Int → (Nat → Int → Int) → Prop} {sp : Int → Int} {sc pl cd : Int} (S : vSh h A g M n tb) (hs : 0 ≤ sc ∧ sc ≤ 4) (es : h.mX32_spans (A 0 0) = sc) (hS : vRS h.ai A sp sc) (hc : 0 ≤ cd) (hl : -6 ≤ pl)
    (p1 : vTk (h.ai (A 21 0)) sp sc pl cd → post 1 (va_up h.ai (A 21 0) (vSet (h.ai (A 21 0)) pl cd))) (p0 : ¬ vTk (h.ai (A 21 0)) sp sc pl cd → post 0 h.ai) : uVR_X32_takes post h (A 0 0) pl cd := by
  unfold uVR_X32_takes wpVR_X32_takes
  have l21 : h.an (A 21 0) = 6 := S.len 21 0 (by decide) (by decide) (by decide) z01
  have k21 : h.kd (A 21 0) = 6 := S.kd 21 0 (by decide) (by decide) z01
  unfold vTk vSet at *
  refine ⟨fun z => ⟨by omega, fun v ev => kOn_of S.rw.2.2.1 ⟨k21, by rw [l21]; omega, fun y => CVR_takes51 S hs es hS hc (fun w => ⟨fun q => absurd q (by decide), fun _ => kOn_of S.rw.2.2.1 ⟨k21, by rw [l21]; omega, fun _ e => ⟨Or.inr rfl, ?_⟩⟩⟩) (fun w => ⟨fun _ => ⟨Or.inl rfl, ?_⟩, fun q => absurd rfl q⟩), fun y => ⟨fun y2 => ?_, fun y2 => ?_⟩⟩⟩, fun z => ⟨fun y => ?_, fun y => ?_⟩⟩
  all_goals try (rw [if_neg (show ¬ 0 ≤ pl by omega)] at p0 p1; rw [if_neg (show ¬ 0 ≤ pl by omega)] at p1; rw [← ev] at p0 p1)
  · rw [if_pos y] at p1; subst e; exact p1 w
  · rw [if_pos y] at p0; exact p0 w
  · rw [if_neg y] at p1
    have := p1 y2
    rw [va_up_id (by funext j; unfold updI; by_cases hj : j = v; (· rw [if_pos hj, hj, y2]); rw [if_neg hj])] at this
    exact this
  · rw [if_neg y] at p0; exact p0 y2
  · rw [if_pos (by omega), if_pos (by omega), va_up_id rfl] at p1; exact p1 y
  · rw [if_pos (by omega)] at p0; exact p0 y
end

/-! VirtualRewrite (room VR): answers in order -/
section
variable {A : Nat → Int → Nat} {g : Nat → Nat × Int} {tb : Int → Int} {M n : Nat} {h : HpVR}
theorem CVR_compare {post : Int → Prop} {i : Int} {x row : Int → Int} (S : vSh h A g M n tb) (hi : 0 ≤ i ∧ i < 300) (ex : ∀ v, 0 ≤ v → v < 6 → h.ai (A 21 0) v = x v) (er : ∀ v, 0 ≤ v → v < 6 → h.ai (A 23 0) (6 * i + v) = row v)
    (hb : ∀ v, 0 ≤ v → v < 6 → h.mX32_asked (A 0 0) / 2 ^ v.toNat % 2 = 0 → x v = row v) (p1 : vLt x row → post (-1)) (p0 : vE6 x row → post 0) (p2 : vLt row x → post 1) : uVR_X32_compare post h (A 0 0) i := by
  unfold uVR_X32_compare wpVR_X32_compare
  have l21 : h.an (A 21 0) = 6 := S.len 21 0 (by decide) (by decide) (by decide) z01
  have l23 : h.an (A 23 0) = 1800 := S.len 23 0 (by decide) (by decide) (by decide) z01
  refine wl2 _ (fun b v => (0 ≤ v ∧ v ≤ 6) ∧ ((b = 0 ∧ ∀ w, 0 ≤ w → w < v → x w = row w) ∨ (b = -1 ∧ vLt x row) ∨ (b = 1 ∧ vLt row x))) (fun b v => (6 - v).toNat) ?_ 0 0 ⟨by omega, Or.inl ⟨rfl, fun w a b => by omega⟩⟩
  rintro b v ⟨hv, hx⟩ f ih
  rw [wVR_X32_compare_4]
  refine ⟨fun z => ?_, fun z => ⟨fun e => ⟨by omega, fun y => ⟨by omega, fun _ e1 => ?_⟩, fun y => kOn_of S.rw.2.2.1 ⟨S.kd 21 0 (by decide) (by decide) z01, by rw [l21]; omega, kOn_of S.ra.1 ⟨S.kd 23 0 (by decide) (by decide) z01, by rw [l23]; omega, by omega, ?_⟩⟩⟩, fun e => ?_⟩⟩
  · rcases hx with ⟨rfl, hx⟩ | ⟨rfl, hx⟩ | ⟨rfl, hx⟩
    · exact p0 (fun w a b => hx w a (by omega))
    · exact p1 hx
    · exact p2 hx
  · have hx2 : ∀ w, 0 ≤ w → w < v → x w = row w := by
      rcases hx with ⟨_, hx⟩ | ⟨e2, _⟩ | ⟨e2, _⟩
      · exact hx
      · omega
      · omega
    subst e1
    refine ih _ _ ⟨by omega, Or.inl ⟨rfl, fun w a b => ?_⟩⟩ (by omega)
    by_cases hw : w = v
    · subst hw; exact hb w a (by omega) y
    · exact hx2 w a (by omega)
  · have hx2 : ∀ w, 0 ≤ w → w < v → x w = row w := by
      rcases hx with ⟨_, hx⟩ | ⟨e2, _⟩ | ⟨e2, _⟩
      · exact hx
      · omega
      · omega
    rw [ex v hv.1 (by omega), er v hv.1 (by omega)]
    unfold wpVR_J3_compare
    refine ⟨fun y1 => ⟨fun y2 => ⟨by omega, fun _ e1 => ?_⟩, fun y2 => ⟨by omega, fun _ e1 => ?_⟩⟩, fun y1 => ⟨by omega, fun _ e1 => ?_⟩⟩
    · subst e1
      refine ih _ _ ⟨by omega, Or.inl ⟨rfl, fun w a b => ?_⟩⟩ (by omega)
      by_cases hw : w = v
      · subst hw; exact y2
      · exact hx2 w a (by omega)
    · subst e1
      exact ih _ _ ⟨by omega, Or.inr (Or.inr ⟨rfl, v, ⟨hv.1, by omega⟩, fun w a b => (hx2 w a b).symm, by omega⟩)⟩ (by omega)
    · subst e1
      exact ih _ _ ⟨by omega, Or.inr (Or.inl ⟨rfl, v, ⟨hv.1, by omega⟩, hx2, by omega⟩)⟩ (by omega)
  · rcases hx with ⟨e2, _⟩ | ⟨rfl, hx⟩ | ⟨rfl, hx⟩
    · exact absurd e2 e
    · exact p1 hx
    · exact p2 hx
/-- all labels but the answers' are as they were -/
def vFa (ai ai' : Nat → Int → Int) (A : Nat → Int → Nat) (N : Nat → Int) : Prop := ∀ i j, 0 ≤ j → j < N i → i ≠ 23 → i ≠ 24 → i ≠ 25 → i ≠ 26 → ai' (A i j) = ai (A i j)
/-- a row is copied behind itself -/
theorem CVR_open12 {K : (Nat → Int → Int) → Prop} {ai : Nat → Int → Int} {k : Int} (S : vSh h A g M n tb) (hk : 1 ≤ k ∧ k < 300) (hp : ∀ f : Int → Int, (∀ w, 0 ≤ w → w < 6 → f (6 * k + w) = ai (A 23 0) (6 * (k - 1) + w)) → (∀ j, (j < 6 * k ∨ 6 * k + 6 ≤ j) → f j = ai (A 23 0) j) → K (va_up ai (A 23 0) f)) :
    ∃ fu, wVR_X32_open_12 K (A 0 0) k h.kd h.an h.mX32_answers fu 0 ai := by
  have l23 : h.an (A 23 0) = 1800 := S.len 23 0 (by decide) (by decide) (by decide) z01
  refine zl2 _ (fun v ai' => 0 ≤ v ∧ ∃ f : Int → Int, (∀ w, 0 ≤ w → w < v → f (6 * k + w) = ai (A 23 0) (6 * (k - 1) + w)) ∧ (∀ j, (j < 6 * k ∨ 6 * k + v ≤ j) → f j = ai (A 23 0) j) ∧ ai' = va_up ai (A 23 0) f) 6 ?_ ⟨by omega, ai (A 23 0), fun w a b => by omega, fun j _ => rfl, (va_up_id rfl).symm⟩ (by decide)
  rintro q v ai' ⟨hv, f, hf, hf2, rfl⟩ hN ih
  rw [wVR_X32_open_12]
  refine ⟨fun z => hp f (fun w a b => hf w a (by omega)) (fun j a => hf2 j (by omega)), fun z => kOn_of S.ra.1 ⟨S.kd 23 0 (by decide) (by decide) z01, by rw [l23]; omega, by omega, fun _ e1 => ⟨by rw [l23]; omega, by omega, fun _ e2 => ⟨by omega, fun _ e3 => ?_⟩⟩⟩⟩
  subst e1 e2 e3
  rw [va_up_self, va_up_up]
  refine ih _ (by omega) ⟨by omega, _, fun w a b => ?_, fun j a => ?_, rfl⟩
  · by_cases hw : w = v
    · subst hw; rw [updI_s, hf2 _ (by omega)]
    · rw [updI_n (by omega)]; exact hf w a (by omega)
  · rw [updI_n (by omega)]; exact hf2 j (by omega)
theorem CVR_open98 {K : (Nat → Int → Int) → Prop} {ai : Nat → Int → Int} {k : Int} {x : Int → Int} (S : vSh h A g M n tb) (hk : 0 ≤ k ∧ k < 300) (ex : ∀ v, 0 ≤ v → v < 6 → ai (A 21 0) v = x v) (hp : ∀ f : Int → Int, (∀ w, 0 ≤ w → w < 6 → f (6 * k + w) = x w) → (∀ j, (j < 6 * k ∨ 6 * k + 6 ≤ j) → f j = ai (A 23 0) j) → K (va_up ai (A 23 0) f)) :
    ∃ fu, wVR_X32_open_98 K (A 0 0) k h.kd h.an h.mX32_given h.mX32_answers fu 0 ai := by
  have l23 : h.an (A 23 0) = 1800 := S.len 23 0 (by decide) (by decide) (by decide) z01
  have l21 : h.an (A 21 0) = 6 := S.len 21 0 (by decide) (by decide) (by decide) z01
  refine zl2 _ (fun v ai' => 0 ≤ v ∧ ∃ f : Int → Int, (∀ w, 0 ≤ w → w < v → f (6 * k + w) = x w) ∧ (∀ j, (j < 6 * k ∨ 6 * k + v ≤ j) → f j = ai (A 23 0) j) ∧ ai' = va_up ai (A 23 0) f) 6 ?_ ⟨by omega, ai (A 23 0), fun w a b => by omega, fun j _ => rfl, (va_up_id rfl).symm⟩ (by decide)
  rintro q v ai' ⟨hv, f, hf, hf2, rfl⟩ hN ih
  rw [wVR_X32_open_98]
  refine ⟨fun z => hp f (fun w a b => hf w a (by omega)) (fun j a => hf2 j (by omega)), fun z => kOn_of S.rw.2.2.1 ⟨S.kd 21 0 (by decide) (by decide) z01, by rw [l21]; omega, fun _ e1 => kOn_of S.ra.1 ⟨S.kd 23 0 (by decide) (by decide) z01, by rw [l23]; omega, by omega, fun _ e2 => ⟨by omega, fun _ e3 => ?_⟩⟩⟩⟩
  rw [S.up 23 21 0 0 ⟨by decide, z01⟩ ⟨by decide, z01⟩ (Or.inl (by decide)), ex v hv (by omega)] at e1
  subst e1 e2 e3
  rw [va_up_self, va_up_up]
  refine ih _ (by omega) ⟨by omega, _, fun w a b => ?_, fun j a => ?_, rfl⟩
  · by_cases hw : w = v
    · subst hw; rw [updI_s]
    · rw [updI_n (by omega)]; exact hf w a (by omega)
  · rw [updI_n (by omega)]; exact hf2 j (by omega)
end

/-! VirtualRewrite (room VR): room is made for an answer; an answer is noted -/
def pRow (ai ai1 : Nat → Int → Int) (A : Nat → Int → Nat) (j j' : Int) : Prop := (∀ v, 0 ≤ v → v < 6 → ai1 (A 23 0) (6 * j + v) = ai (A 23 0) (6 * j' + v)) ∧ ai1 (A 24 0) j = ai (A 24 0) j' ∧ ai1 (A 25 0) j = ai (A 25 0) j' ∧ ai1 (A 26 0) j = ai (A 26 0) j'
section
variable {A : Nat → Int → Nat} {g : Nat → Nat × Int} {tb : Int → Int} {M n : Nat} {h : HpVR}
theorem CVR_open5 {K : (Nat → Int → Int) → Prop} {t cn : Int} (S : vSh h A g M n tb) (ht : 0 ≤ t ∧ t ≤ cn) (hc : cn < 300) (hp : ∀ ai1, vFa h.ai ai1 A (vN M n) → (∀ j, 0 ≤ j → j ≤ cn → (j ≤ t → pRow h.ai ai1 A j j) ∧ (t < j → pRow h.ai ai1 A j (j - 1))) → K ai1) :
    ∃ fu, wVR_X32_open_5 K (A 0 0) t h.kd h.an h.mX32_answers h.mX32_foundBy h.mX32_firstBy h.mX32_lastBy fu cn h.ai := by
  have l24 : h.an (A 24 0) = 300 := S.len 24 0 (by decide) (by decide) (by decide) z01
  have l25 : h.an (A 25 0) = 300 := S.len 25 0 (by decide) (by decide) (by decide) z01
  have l26 : h.an (A 26 0) = 300 := S.len 26 0 (by decide) (by decide) (by decide) z01
  have up : ∀ (i i' : Nat) {f : Nat → Int → Int} {v : Int → Int}, vN M n i = 1 → vN M n i' = 1 → i ≠ i' → va_up f (A i 0) v (A i' 0) = f (A i' 0) := fun i i' f v e e' w => S.up i i' 0 0 ⟨by decide, by rw [e]; exact z01⟩ ⟨by decide, by rw [e']; exact z01⟩ (Or.inl w)
  refine wl2 _ (fun k ai1 => (t ≤ k ∧ k ≤ cn) ∧ vFa h.ai ai1 A (vN M n) ∧ ∀ j, 0 ≤ j → j ≤ cn → (j ≤ k → pRow h.ai ai1 A j j) ∧ (k < j → pRow h.ai ai1 A j (j - 1))) (fun k ai1 => k.toNat) ?_ cn h.ai ⟨by omega, fun i j _ _ _ _ _ _ => rfl, fun j a b => ⟨fun _ => ⟨fun v _ _ => rfl, rfl, rfl, rfl⟩, fun q => by omega⟩⟩
  rintro k ai1 ⟨hk, F, hR⟩ f ih
  rw [wVR_X32_open_5]
  refine ⟨fun z => ?_, fun z => CVR_open12 S ⟨by omega, by omega⟩ (fun fr h1 h2 => ?_)⟩
  · have : k = t := by omega
    subst this; exact hp ai1 F hR
  refine kOn_of S.ra.2.1 ⟨S.kd 24 0 (by decide) (by decide) z01, by rw [l24]; omega, by omega, fun _ e1 => ⟨by rw [l24]; omega, fun _ e2 => kOn_of S.ra.2.2.1 ⟨S.kd 25 0 (by decide) (by decide) z01, by rw [l25]; omega, fun _ e3 => ⟨by rw [l25]; omega, fun _ e4 => kOn_of S.ra.2.2.2 ⟨S.kd 26 0 (by decide) (by decide) z01, by rw [l26]; omega, fun _ e5 => ⟨by rw [l26]; omega, fun ai5 e6 => ⟨by omega, fun _ e7 => ?_⟩⟩⟩⟩⟩⟩⟩
  subst e1 e2 e3 e4 e5 e7
  have u23 : ai5 (A 23 0) = fr := by rw [e6, up 26 23 rfl rfl (by decide), up 25 23 rfl rfl (by decide), up 24 23 rfl rfl (by decide), va_up_self]
  have u24 : ai5 (A 24 0) = updI (ai1 (A 24 0)) k (ai1 (A 24 0) (k - 1)) := by rw [e6, up 26 24 rfl rfl (by decide), up 25 24 rfl rfl (by decide), va_up_self, up 23 24 rfl rfl (by decide)]
  have u25 : ai5 (A 25 0) = updI (ai1 (A 25 0)) k (ai1 (A 25 0) (k - 1)) := by rw [e6, up 26 25 rfl rfl (by decide), va_up_self, up 24 25 rfl rfl (by decide), up 23 25 rfl rfl (by decide)]
  have u26 : ai5 (A 26 0) = updI (ai1 (A 26 0)) k (ai1 (A 26 0) (k - 1)) := by rw [e6, va_up_self, up 25 26 rfl rfl (by decide), up 24 26 rfl rfl (by decide), up 23 26 rfl rfl (by decide)]
  refine ih _ _ ⟨by omega, fun i j u v w1 w2 w3 w4 => ?_, fun j a b => ?_⟩ (by omega)
  · rw [e6, S.up 26 i 0 j ⟨by decide, z01⟩ ⟨u, v⟩ (Or.inl w4.symm), S.up 25 i 0 j ⟨by decide, z01⟩ ⟨u, v⟩ (Or.inl w3.symm), S.up 24 i 0 j ⟨by decide, z01⟩ ⟨u, v⟩ (Or.inl w2.symm), S.up 23 i 0 j ⟨by decide, z01⟩ ⟨u, v⟩ (Or.inl w1.symm)]
    exact F i j u v w1 w2 w3 w4
  · by_cases hj : j = k
    · subst hj
      refine ⟨fun q => by omega, fun _ => ?_⟩
      have P := (hR (j - 1) (by omega) (by omega)).1 (by omega)
      unfold pRow
      rw [u23, u24, u25, u26, updI_s, updI_s, updI_s]
      exact ⟨fun v a b => by rw [h1 v a b]; exact P.1 v a b, P.2.1, P.2.2.1, P.2.2.2⟩
    · have P := hR j a b
      refine ⟨fun q => ?_, fun q => ?_⟩
      · have P := P.1 (by omega)
        unfold pRow
        rw [u23, u24, u25, u26, updI_n hj, updI_n hj, updI_n hj]
        exact ⟨fun v a b => by rw [h2 _ (by omega)]; exact P.1 v a b, P.2⟩
      · have P := P.2 (by omega)
        unfold pRow
        rw [u23, u24, u25, u26, updI_n hj, updI_n hj, updI_n hj]
        exact ⟨fun v a b => by rw [h2 _ (by omega)]; exact P.1 v a b, P.2⟩
theorem CVR_open {post : (Nat → Int → Int) → (Nat → Int) → Prop} {t cn : Int} {x : Int → Int} (S : vSh h A g M n tb) (ec : h.mX32_answerCount (A 0 0) = cn) (ht : 0 ≤ t ∧ t ≤ cn) (hc : cn < 300) (ex : ∀ v, 0 ≤ v → v < 6 → h.ai (A 21 0) v = x v)
    (hp : ∀ ai1, vFa h.ai ai1 A (vN M n) → (∀ j, 0 ≤ j → j ≤ cn → (j < t → pRow h.ai ai1 A j j) ∧ (t < j → pRow h.ai ai1 A j (j - 1))) → (∀ v, 0 ≤ v → v < 6 → ai1 (A 23 0) (6 * t + v) = x v) → ai1 (A 24 0) t = 0 → ai1 (A 26 0) t = -1 → post ai1 (va_up h.mX32_answerCount (A 0 0) (cn + 1))) : uVR_X32_open post h (A 0 0) t := by
  unfold uVR_X32_open wpVR_X32_open
  have l24 : h.an (A 24 0) = 300 := S.len 24 0 (by decide) (by decide) (by decide) z01
  have l26 : h.an (A 26 0) = 300 := S.len 26 0 (by decide) (by decide) (by decide) z01
  have up : ∀ (i i' : Nat) {f : Nat → Int → Int} {v : Int → Int}, vN M n i = 1 → vN M n i' = 1 → i ≠ i' → va_up f (A i 0) v (A i' 0) = f (A i' 0) := fun i i' f v e e' w => S.up i i' 0 0 ⟨by decide, by rw [e]; exact z01⟩ ⟨by decide, by rw [e']; exact z01⟩ (Or.inl w)
  rw [ec]
  intro _ e0
  subst e0
  refine CVR_open5 S ht hc (fun ai1 F hR => CVR_open98 (x := x) S ⟨by omega, by omega⟩ (fun v a b => by rw [F 21 0 (by decide) z01 (by decide) (by decide) (by decide) (by decide)]; exact ex v a b) (fun fr h1 h2 => ?_))
  refine kOn_of S.ra.2.1 ⟨S.kd 24 0 (by decide) (by decide) z01, by rw [l24]; omega, fun _ e1 => kOn_of S.ra.2.2.2 ⟨S.kd 26 0 (by decide) (by decide) z01, by rw [l26]; omega, fun ai5 e2 => ⟨by omega, fun _ e3 _ e4 => ?_⟩⟩⟩
  subst e1 e3 e4
  have u23 : ai5 (A 23 0) = fr := by rw [e2, up 26 23 rfl rfl (by decide), up 24 23 rfl rfl (by decide), va_up_self]
  have u24 : ai5 (A 24 0) = updI (ai1 (A 24 0)) t 0 := by rw [e2, up 26 24 rfl rfl (by decide), va_up_self, up 23 24 rfl rfl (by decide)]
  have u25 : ai5 (A 25 0) = ai1 (A 25 0) := by rw [e2, up 26 25 rfl rfl (by decide), up 24 25 rfl rfl (by decide), up 23 25 rfl rfl (by decide)]
  have u26 : ai5 (A 26 0) = updI (ai1 (A 26 0)) t (-1) := by rw [e2, va_up_self, up 24 26 rfl rfl (by decide), up 23 26 rfl rfl (by decide)]
  refine hp ai5 (fun i j u v w1 w2 w3 w4 => ?_) (fun j a b => ?_) (fun v a b => by rw [u23]; exact h1 v a b) (by rw [u24, updI_s]) (by rw [u26, updI_s])
  · rw [e2, S.up 26 i 0 j ⟨by decide, z01⟩ ⟨u, v⟩ (Or.inl w4.symm), S.up 24 i 0 j ⟨by decide, z01⟩ ⟨u, v⟩ (Or.inl w2.symm), S.up 23 i 0 j ⟨by decide, z01⟩ ⟨u, v⟩ (Or.inl w1.symm)]
    exact F i j u v w1 w2 w3 w4
  · have P := hR j a b
    refine ⟨fun q => ?_, fun q => ?_⟩
    · have P := P.1 (by omega)
      unfold pRow
      rw [u23, u24, u25, u26, updI_n (by omega), updI_n (by omega)]
      exact ⟨fun v a b => by rw [h2 _ (by omega)]; exact P.1 v a b, P.2⟩
    · have P := P.2 (by omega)
      unfold pRow
      rw [u23, u24, u25, u26, updI_n (by omega), updI_n (by omega)]
      exact ⟨fun v a b => by rw [h2 _ (by omega)]; exact P.1 v a b, P.2⟩
end

/-! VirtualRewrite (room VR): an answer is noted -/
/-- the answers that the room holds -/
def cAn (ai : Nat → Int → Int) (cn tm : Nat → Int) (A : Nat → Int → Nat) (s : VA) : Prop := cn (A 0 0) = s.1 ∧ tm (A 0 0) = s.2.2.2.2.2 ∧ ∀ i, 0 ≤ i → i < s.1 → (∀ v, 0 ≤ v → v < 6 → ai (A 23 0) (6 * i + v) = s.2.1 i v) ∧ ai (A 24 0) i = s.2.2.1 i ∧ ai (A 25 0) i = s.2.2.2.1 i ∧ ai (A 26 0) i = s.2.2.2.2.1 i
section
variable {A : Nat → Int → Nat} {g : Nat → Nat × Int} {tb : Int → Int} {M n : Nat} {h : HpVR}
theorem CVR_note68 {post : (Nat → Int → Int) → (Nat → Int) → (Nat → Int) → Prop} {ai : Nat → Int → Int} {cn tm : Nat → Int} {u p : Int} (S : vSh h A g M n tb) (hp : 0 ≤ p ∧ p < 300) (hf : -1 ≤ ai (A 24 0) p ∧ ai (A 24 0) p ≤ 1000)
    (hk : post (va_up (va_up ai (A 24 0) (updI (ai (A 24 0)) p (ai (A 24 0) p + if ai (A 26 0) p = u then 0 else 1))) (A 26 0) (updI (ai (A 26 0)) p u)) cn tm) : wVR_X32_note_68 post (A 0 0) u p h.kd h.an ai h.mX32_foundBy h.mX32_lastBy cn tm := by
  unfold wVR_X32_note_68
  have l24 : h.an (A 24 0) = 300 := S.len 24 0 (by decide) (by decide) (by decide) z01
  have l26 : h.an (A 26 0) = 300 := S.len 26 0 (by decide) (by decide) (by decide) z01
  have up : ∀ {f : Nat → Int → Int} {v : Int → Int}, va_up f (A 24 0) v (A 26 0) = f (A 26 0) := S.up 24 26 0 0 ⟨by decide, z01⟩ ⟨by decide, z01⟩ (Or.inl (by decide))
  refine kOn_of S.ra.2.1 ⟨S.kd 24 0 (by decide) (by decide) z01, by rw [l24]; omega, kOn_of S.ra.2.2.2 ⟨S.kd 26 0 (by decide) (by decide) z01, by rw [l26]; omega, fun z => ⟨by omega, fun _ e1 _ e2 _ e3 => ?_⟩, fun z => ⟨by omega, fun _ e1 _ e2 _ e3 => ?_⟩⟩⟩
  · subst e1 e2 e3
    rw [if_pos z] at hk; rw [up]; exact hk
  · subst e1 e2 e3
    rw [if_neg z] at hk; rw [up]; exact hk
theorem CVR_note {post : (Nat → Int → Int) → (Nat → Int) → (Nat → Int) → Prop} {u : Int} {x : Int → Int} {s : VA} (S : vSh h A g M n tb) (hu : 0 ≤ u ∧ u < 150) (hS : vSt u s) (hR : cAn h.ai h.mX32_answerCount h.mX32_tooMany A s) (ex : ∀ v, 0 ≤ v → v < 6 → h.ai (A 21 0) v = x v)
    (hb : ∀ v, 0 ≤ v → v < 6 → h.mX32_asked (A 0 0) / 2 ^ v.toNat % 2 = 0 → x v = -1 ∧ ∀ i, 0 ≤ i → i < s.1 → s.2.1 i v = -1)
    (hp : ∀ ai cn tm, vFa h.ai ai A (vN M n) → cAn ai cn tm A (noteS u x s) → post ai cn tm) : uVR_X32_note post h (A 0 0) u := by
  obtain ⟨r1, r2, r3⟩ := hR
  have hP := vPos_s hS x
  have hS' := hS
  obtain ⟨t1, t2, t3, t4⟩ := hS
  have l25 : h.an (A 25 0) = 300 := S.len 25 0 (by decide) (by decide) (by decide) z01
  have up : ∀ (i i' : Nat) {f : Nat → Int → Int} {v : Int → Int}, vN M n i = 1 → vN M n i' = 1 → i ≠ i' → va_up f (A i 0) v (A i' 0) = f (A i' 0) := fun i i' f v e e' w => S.up i i' 0 0 ⟨by decide, by rw [e]; exact z01⟩ ⟨by decide, by rw [e']; exact z01⟩ (Or.inl w)
  -- it is new
  have n40 : ¬ (vPos s x < s.1 ∧ vE6 (s.2.1 (vPos s x)) x) → wVR_X32_note_40 post (A 0 0) u (vPos s x) h.kd h.an h.ai h.mX32_given h.mX32_answers h.mX32_foundBy h.mX32_firstBy h.mX32_lastBy h.mX32_answerCount h.mX32_tooMany := by
    intro hne
    unfold noteS at hp
    rw [pif_f hne] at hp
    unfold wVR_X32_note_40
    rw [r1]
    refine ⟨fun z tm e => ?_, fun z => ?_⟩
    · rw [if_pos z] at hp
      refine hp _ _ _ (fun i j _ _ _ _ _ _ => rfl) ⟨r1, by rw [e, va_up_self], r3⟩
    · rw [if_neg z] at hp
      refine CVR_open S r1 hP.1 (by omega) ex (fun ai1 F hO e23 e24 e26 => ?_)
      refine kOn_of S.ra.2.2.1 ⟨S.kd 25 0 (by decide) (by decide) z01, by rw [l25]; omega, fun ai2 q2 => ?_⟩
      have v24 : ai2 (A 24 0) = ai1 (A 24 0) := by rw [q2, up 25 24 rfl rfl (by decide)]
      have v23 : ai2 (A 23 0) = ai1 (A 23 0) := by rw [q2, up 25 23 rfl rfl (by decide)]
      have v26 : ai2 (A 26 0) = ai1 (A 26 0) := by rw [q2, up 25 26 rfl rfl (by decide)]
      have v25 : ai2 (A 25 0) = updI (ai1 (A 25 0)) (vPos s x) u := by rw [q2, va_up_self]
      refine CVR_note68 S (by omega) (by rw [v24, e24]; omega) (hp _ _ _ ?_ ?_)
      · intro i j a b w1 w2 w3 w4
        rw [S.up 26 i 0 j ⟨by decide, z01⟩ ⟨a, b⟩ (Or.inl w4.symm), S.up 24 i 0 j ⟨by decide, z01⟩ ⟨a, b⟩ (Or.inl w2.symm), q2, S.up 25 i 0 j ⟨by decide, z01⟩ ⟨a, b⟩ (Or.inl w3.symm)]
        exact F i j a b w1 w2 w3 w4
      · refine ⟨va_up_self _ _ _, r2, fun i a b => ?_⟩
        rw [va_up_self, up 26 24 rfl rfl (by decide), va_up_self, up 26 23 rfl rfl (by decide), up 24 23 rfl rfl (by decide), up 26 25 rfl rfl (by decide), up 24 25 rfl rfl (by decide), v23, v24, v25, v26]
        have b : i < s.1 + 1 := b
        show (∀ v, 0 ≤ v → v < 6 → ai1 (A 23 0) (6 * i + v) = insI s.2.1 (vPos s x) x i v) ∧ updI (ai1 (A 24 0)) (vPos s x) _ i = insI s.2.2.1 (vPos s x) 1 i ∧ updI (ai1 (A 25 0)) (vPos s x) u i = insI s.2.2.2.1 (vPos s x) u i ∧ updI (ai1 (A 26 0)) (vPos s x) u i = insI s.2.2.2.2.1 (vPos s x) u i
        unfold insI
        by_cases hi : i = vPos s x
        · rw [hi, updI_s, updI_s, updI_s, if_neg (Int.lt_irrefl _), if_pos rfl, if_neg (Int.lt_irrefl _), if_pos rfl, if_neg (Int.lt_irrefl _), if_pos rfl, if_neg (Int.lt_irrefl _), if_pos rfl, e24, e26, if_neg (by omega)]
          exact ⟨e23, rfl, rfl, rfl⟩
        · rw [updI_n hi, updI_n hi, updI_n hi]
          by_cases hl : i < vPos s x
          · have P := (hO i a (by omega)).1 hl
            have R := r3 i a (by omega)
            rw [if_pos hl, if_pos hl, if_pos hl, if_pos hl]
            exact ⟨fun v c d => by rw [P.1 v c d]; exact R.1 v c d, by rw [P.2.1]; exact R.2.1, by rw [P.2.2.1]; exact R.2.2.1, by rw [P.2.2.2]; exact R.2.2.2⟩
          · have P := (hO i a (by omega)).2 (by omega)
            have R := r3 (i - 1) (by omega) (by omega)
            rw [if_neg hl, if_neg hi, if_neg hl, if_neg hi, if_neg hl, if_neg hi, if_neg hl, if_neg hi]
            exact ⟨fun v c d => by rw [P.1 v c d]; exact R.1 v c d, by rw [P.2.1]; exact R.2.1, by rw [P.2.2.1]; exact R.2.2.1, by rw [P.2.2.2]; exact R.2.2.2⟩
  -- it was there
  have n68 : vPos s x < s.1 → vE6 (s.2.1 (vPos s x)) x → wVR_X32_note_68 post (A 0 0) u (vPos s x) h.kd h.an h.ai h.mX32_foundBy h.mX32_lastBy h.mX32_answerCount h.mX32_tooMany := by
    intro hl he
    unfold noteS at hp
    rw [pif_t ⟨hl, he⟩] at hp
    have R := r3 _ hP.1.1 hl
    have T := t3 _ hP.1.1 hl
    refine CVR_note68 S (by omega) (by rw [R.2.1]; omega) (hp _ _ _ ?_ ?_)
    · intro i j a b w1 w2 w3 w4
      rw [S.up 26 i 0 j ⟨by decide, z01⟩ ⟨a, b⟩ (Or.inl w4.symm), S.up 24 i 0 j ⟨by decide, z01⟩ ⟨a, b⟩ (Or.inl w2.symm)]
    · refine ⟨r1, r2, fun i a b => ?_⟩
      have b : i < s.1 := b
      rw [va_up_self, up 26 24 rfl rfl (by decide), va_up_self, up 26 23 rfl rfl (by decide), up 24 23 rfl rfl (by decide), up 26 25 rfl rfl (by decide), up 24 25 rfl rfl (by decide), R.2.1, R.2.2.2]
      have Ri := r3 i a b
      refine ⟨Ri.1, ?_, Ri.2.2.1, ?_⟩
      · show updI _ _ _ _ = updI s.2.2.1 _ _ _
        by_cases hi : i = vPos s x
        · rw [hi, updI_s, updI_s]
        · rw [updI_n hi, updI_n hi]; exact Ri.2.1
      · show updI _ _ _ _ = updI s.2.2.2.2.1 _ _ _
        by_cases hi : i = vPos s x
        · rw [hi, updI_s, updI_s]
        · rw [updI_n hi, updI_n hi]; exact Ri.2.2.2
  have cmp : ∀ {post : Int → Prop} {i : Int}, 0 ≤ i → i < s.1 → (vLt x (s.2.1 i) → post (-1)) → (vE6 x (s.2.1 i) → post 0) → (vLt (s.2.1 i) x → post 1) → uVR_X32_compare post h (A 0 0) i := by
    intro post i a b p1 p0 p2
    exact CVR_compare S ⟨a, by omega⟩ ex (r3 i a b).1 (fun v c d e => by rw [(hb v c d e).1, (hb v c d e).2 i a b]) p1 p0 p2
  have noLt : vPos s x < s.1 → vLt x (s.2.1 (vPos s x)) → ¬ vE6 (s.2.1 (vPos s x)) x := fun _ w e => vLt_ir (fun v a b => (e v a b).symm) w
  unfold uVR_X32_note wpVR_X32_note
  rw [r1]
  refine zl1 _ (fun i => 0 ≤ i ∧ ∀ j, 0 ≤ j → j < i → vLt (s.2.1 j) x) s.1 ?_ ⟨by omega, fun j a b => by omega⟩ t1.1
  intro q i ⟨hi, hI⟩ hN ih
  rw [wVR_X32_note_2, r1]
  have pos : (i < s.1 → ¬ vLt (s.2.1 i) x) → vPos s x = i := fun w => fstI_u hi (by omega) (fun w2 => w (by omega)) (fun j a b => fun w2 => w2 (hI j a b))
  refine ⟨fun z => ?_, fun z => cmp hi (by omega) (fun w => ⟨fun _ => ?_, fun y => absurd (by decide) y⟩) (fun w => ⟨fun _ => ?_, fun y => absurd (by decide) y⟩) (fun w => ⟨fun y => absurd y (by decide), fun _ => ⟨by omega, fun _ e1 => ?_⟩⟩)⟩
  · have e := pos (fun w => by omega)
    have n40' := n40 (fun w => by omega)
    rw [e] at n40'
    exact ⟨fun _ => n40', fun y => absurd (by omega) y⟩
  · have hno : ¬ vLt (s.2.1 i) x := fun w2 => vLt_ir (fun v _ _ => rfl) (vLt_tr w w2)
    have e := pos (fun _ => hno)
    rw [e] at n40 n68 noLt
    refine ⟨fun y => by omega, fun _ => cmp hi (by omega) (fun w2 => ⟨fun y => absurd y (by decide), fun _ => n40 (fun y => noLt y.1 w2 y.2)⟩) (fun w2 => absurd w (vLt_ir w2)) (fun w2 => absurd w2 hno)⟩
  · have hno : ¬ vLt (s.2.1 i) x := vLt_ir (fun v a b => (w v a b).symm)
    have e := pos (fun _ => hno)
    rw [e] at n40 n68
    refine ⟨fun y => by omega, fun _ => cmp hi (by omega) (fun w2 => absurd w2 (vLt_ir w)) (fun w2 => ⟨fun _ => n68 (by omega) (fun v a b => (w v a b).symm), fun y => absurd rfl y⟩) (fun w2 => absurd w2 hno)⟩
  · subst e1
    refine ih (by omega) ⟨by omega, fun j a b => ?_⟩
    by_cases hj : j = i
    · subst hj; exact w
    · exact hI j a (by omega)
end

/-! VirtualRewrite: what is given, place by place (plain) -/
def vCi (c mp at_ sp : Int → Int) (sc : Int) (tr R : Int → Int) (i : Int) : Prop := (0 ≤ vPl at_ i → vPl at_ i = vCd c mp tr R i) ∧ (vPl at_ i < 0 → (∀ j, 0 ≤ j → j < i → vPl at_ j = vPl at_ i → vCd c mp tr R j = vCd c mp tr R i) ∧ ∀ s, 0 ≤ s → s < sc → sp (3 * s) = -1 - vPl at_ i → sp (3 * s + 1) ≤ vCd c mp tr R i % 10000 ∧ vCd c mp tr R i % 10000 ≤ sp (3 * s + 2))
def vGi (c mp at_ tr R : Int → Int) (N : Int) (f : Int → Int) : Prop := ∀ v, 0 ≤ v → v < 6 → (∀ i, 0 ≤ i → i < N → vPl at_ i = -1 - v → f v = vCd c mp tr R i) ∧ ((∀ i, 0 ≤ i → i < N → vPl at_ i ≠ -1 - v) → f v = -1)
section
variable {c mp at_ sp tr R f : Int → Int} {sc N : Int}
theorem vGo_ci {k : Int} : vGo c mp at_ sp sc tr R k ↔ vCi c mp at_ sp sc tr R (2 * k) ∧ vCi c mp at_ sp sc tr R (2 * k + 1) := by
  constructor
  · intro h
    exact ⟨h _ (by omega) (by omega), h _ (by omega) (by omega)⟩
  · rintro ⟨h1, h2⟩ i a b
    have : i = 2 * k ∨ i = 2 * k + 1 := by omega
    rcases this with e | e
    · rw [e]; exact h1
    · rw [e]; exact h2
theorem vGi_tk (hG : vGi c mp at_ tr R N f) (hN : 0 ≤ N) (hl : -6 ≤ vPl at_ N) (hc : ∀ i, 0 ≤ i → i ≤ N → 0 ≤ vCd c mp tr R i) (hp : ∀ i, 0 ≤ i → i < N → vCi c mp at_ sp sc tr R i) : vTk f sp sc (vPl at_ N) (vCd c mp tr R N) ↔ vCi c mp at_ sp sc tr R N := by
  unfold vTk
  by_cases h0 : 0 ≤ vPl at_ N
  · rw [if_pos h0]
    exact ⟨fun w => ⟨fun _ => w, fun q => by omega⟩, fun w => w.1 h0⟩
  · rw [if_neg h0]
    obtain ⟨g1, g2⟩ := hG (-1 - vPl at_ N) (by omega) (by omega)
    have e : -1 - (-1 - vPl at_ N) = vPl at_ N := by omega
    rw [e] at g1 g2
    by_cases hx : ∃ j, 0 ≤ j ∧ j < N ∧ vPl at_ j = vPl at_ N
    · obtain ⟨j, a, b, ej⟩ := hx
      have ef := g1 j a b ej
      have hcj := hc j a (by omega)
      rw [if_neg (by omega)]
      constructor
      · intro w
        refine ⟨fun q => absurd q h0, fun _ => ⟨fun i x y z => by rw [← g1 i x y z]; exact w, fun s x y z => ?_⟩⟩
        have := ((hp j a b).2 (by omega)).2 s x y (by rw [ej]; exact z)
        rw [← w, ef]; exact this
      · intro w
        rw [ef]; exact (w.2 (by omega)).1 j a b ej
    · have ef := g2 (fun i x y z => hx ⟨i, x, y, z⟩)
      rw [if_pos ef]
      constructor
      · intro w
        exact ⟨fun q => absurd q h0, fun _ => ⟨fun i x y z => absurd ⟨i, x, y, z⟩ hx, fun s x y z => w s x y z⟩⟩
      · intro w s x y z
        exact (w.2 (by omega)).2 s x y z
theorem vGi_set (hN : 0 ≤ N) (hG : vGi c mp at_ tr R N f) (hc : vCi c mp at_ sp sc tr R N) : vGi c mp at_ tr R (N + 1) (vSet f (vPl at_ N) (vCd c mp tr R N)) := by
  intro v v0 v1
  obtain ⟨h1, h2⟩ := hG v v0 v1
  unfold vSet
  by_cases hp : 0 ≤ vPl at_ N
  · rw [if_pos hp]
    refine ⟨fun i a b e => ?_, fun w => h2 (fun i a b => w i a (by omega))⟩
    by_cases hi : i = N
    · subst hi; omega
    · exact h1 i a (by omega) e
  · rw [if_neg hp]
    by_cases hv : v = -1 - vPl at_ N
    · rw [← hv, updI_s]
      refine ⟨fun i a b e => ?_, fun w => absurd (show vPl at_ N = -1 - v by omega) (w N hN (by omega))⟩
      by_cases hi : i = N
      · subst hi; rfl
      · exact ((hc.2 (by omega)).1 i a (by omega) (by omega)).symm
    · rw [updI_n hv]
      refine ⟨fun i a b e => ?_, fun w => h2 (fun i a b => w i a (by omega))⟩
      by_cases hi : i = N
      · subst hi; omega
      · exact h1 i a (by omega) e
theorem vGi_c {f' R' : Int → Int} (hG : vGi c mp at_ tr R N f) (hf : ∀ v, 0 ≤ v → v < 6 → f' v = f v) (hR : ∀ i, 0 ≤ i → i < N → vCd c mp tr R' i = vCd c mp tr R i) : vGi c mp at_ tr R' N f' := by
  intro v a b
  obtain ⟨h1, h2⟩ := hG v a b
  exact ⟨fun i x y z => by rw [hf v a b, hR i x y]; exact h1 i x y z, fun w => by rw [hf v a b]; exact h2 w⟩
/-- what is given at the end is the answer -/
theorem vGi_vec {n : Nat} (hG : vGi c mp at_ tr R (2 * n) f) {v : Int} (h0 : 0 ≤ v) (h1 : v < 6) : f v = vVec c mp at_ n tr R v := by
  obtain ⟨g1, g2⟩ := hG v h0 h1
  have hs := fstI_s (fun i => vPl at_ i = -1 - v) (2 * n)
  unfold vVec
  by_cases hl : fstI (fun i => vPl at_ i = -1 - v) (2 * n) < ((2 * n : Nat) : Int)
  · rw [if_pos (by omega)]
    exact g1 _ hs.1.1 (by omega) (hs.2.1 hl)
  · rw [if_neg (by omega)]
    exact g2 (fun i a b e => hs.2.2 i a (by omega) e)
end

/-! VirtualRewrite (room VR): rows for the atoms from one on (give) -/
/-- variables that no place holds are never given -/
def vNo (P : Int → Prop) (s : VA) : Prop := ∀ v, 0 ≤ v → v < 6 → P v → ∀ i, 0 ≤ i → i < s.1 → s.2.1 i v = -1
theorem noteS_no {P : Int → Prop} {u : Int} {x : Int → Int} {s : VA} (hS : vSt u s) (h : vNo P s) (hx : ∀ v, 0 ≤ v → v < 6 → P v → x v = -1) : vNo P (noteS u x s) := by
  have hP := vPos_s hS x
  intro v v0 v1 hp i a b
  unfold noteS at b ⊢
  by_cases hc : vPos s x < s.1 ∧ vE6 (s.2.1 (vPos s x)) x
  · rw [pif_t hc] at b ⊢; exact h v v0 v1 hp i a b
  · rw [pif_f hc] at b ⊢
    by_cases h3 : s.1 = 300
    · rw [if_pos h3] at b ⊢; exact h v v0 v1 hp i a b
    · rw [if_neg h3] at b ⊢
      have b : i < s.1 + 1 := b
      show insI s.2.1 (vPos s x) x i v = -1
      unfold insI
      by_cases h1 : i < vPos s x
      · rw [if_pos h1]; exact h v v0 v1 hp i a (by omega)
      · rw [if_neg h1]
        by_cases h2 : i = vPos s x
        · rw [if_pos h2]; exact hx v v0 v1 hp
        · rw [if_neg h2]; exact h v v0 v1 hp _ (by omega) (by omega)
theorem vLk_no {P : Int → Prop} {ok : (Int → Int) → Int → Prop} {vec : (Int → Int) → Int → Int} {size ld : Int → Int} {u : Int} {n : Nat} (hu : 0 ≤ u) (hx : ∀ R v, 0 ≤ v → v < 6 → P v → vec R v = -1) : ∀ (m : Nat) (R : Int → Int) (s : VA), vSt u s → vNo P s → vNo P (vLk ok vec size ld u n m R s)
  | 0, R, s, h, h' => by unfold vLk; exact noteS_no h h' (hx R)
  | m + 1, R, s, h, h' => by
    have ih := vLk_no (ok := ok) (size := size) (ld := ld) (n := n) hu hx m
    have one : ∀ r s, vSt u s → vNo P s → vNo P (pif (ok (updI R ((n : Int) - ((m : Int) + 1)) r) ((n : Int) - ((m : Int) + 1))) (vLk ok vec size ld u n m (updI R ((n : Int) - ((m : Int) + 1)) r) s) s) ∧ vSt u (pif (ok (updI R ((n : Int) - ((m : Int) + 1)) r) ((n : Int) - ((m : Int) + 1))) (vLk ok vec size ld u n m (updI R ((n : Int) - ((m : Int) + 1)) r) s) s) := by
      intro r s hs hs'
      by_cases hc : ok (updI R ((n : Int) - ((m : Int) + 1)) r) ((n : Int) - ((m : Int) + 1))
      · rw [pif_t hc]; exact ⟨ih _ s hs hs', vLk_st hu m _ s hs⟩
      · rw [pif_f hc]; exact ⟨hs', hs⟩
    unfold vLk
    split
    · split
      · exact (one _ s h h').1
      · exact h'
    · generalize (size ((n : Int) - ((m : Int) + 1))).toNat = z
      generalize (0 : Int) = r
      induction z generalizing r s with
      | zero => exact h'
      | succ z ihz =>
        unfold vLp
        split
        · exact ihz _ (one r s h h').2 (one r s h h').1 _
        · exact ihz _ h h' _
/-- what stays while rows are given: all but what is given, rows, answers -/
def vGr (ai ai' : Nat → Int → Int) (A : Nat → Int → Nat) (N : Nat → Int) : Prop := ∀ i j, 0 ≤ j → j < N i → i ≠ 21 → i ≠ 22 → i ≠ 23 → i ≠ 24 → i ≠ 25 → i ≠ 26 → ai' (A i j) = ai (A i j)
def vDt (ai : Nat → Int → Int) (h : HpVR) (A : Nat → Int → Nat) (tb c mp at_ sp tr sl : Int → Int) (sc : Int) (M n : Nat) (u : Int) : Prop := vRC ai A c ∧ vRM ai h.mX81_predicate A tb mp M ∧ vRA ai h.mX82_predicate A at_ n ∧ vRS ai A sp sc ∧ ∀ k : Int, 0 ≤ k → k < n → ai (A 17 u) k = tr k ∧ ai (A 18 u) k = sl k
theorem vDt_c {ai ai' : Nat → Int → Int} {h : HpVR} {A : Nat → Int → Nat} {tb c mp at_ sp tr sl : Int → Int} {sc : Int} {M n : Nat} {u : Int} (hu : 0 ≤ u ∧ u < 150) (F : vGr ai ai' A (vN M n)) (H : vDt ai h A tb c mp at_ sp tr sl sc M n u) : vDt ai' h A tb c mp at_ sp tr sl sc M n u := by
  obtain ⟨h1, h2, h3, h4, h5⟩ := H
  refine ⟨fun t j a b d e => ?_, fun m a b => ?_, fun k a b => ?_, fun k a b => ?_, fun k a b => ?_⟩
  · rw [F 2 t a (by simpa [vN] using b) (by decide) (by decide) (by decide) (by decide) (by decide) (by decide)]; exact h1 t j a b d e
  · obtain ⟨p, q, r⟩ := h2 m a b
    refine ⟨p, q, fun x y z => ?_⟩
    rw [F 7 m a (by simpa [vN] using b) (by decide) (by decide) (by decide) (by decide) (by decide) (by decide), F 8 m a (by simpa [vN] using b) (by decide) (by decide) (by decide) (by decide) (by decide) (by decide)]
    exact r x y z
  · obtain ⟨p, r⟩ := h3 k a b
    refine ⟨p, fun x y z => ?_⟩
    rw [F 11 k a (by simpa [vN] using b) (by decide) (by decide) (by decide) (by decide) (by decide) (by decide)]
    exact r x y z
  · rw [F 12 0 (by decide) z01 (by decide) (by decide) (by decide) (by decide) (by decide) (by decide), F 13 0 (by decide) z01 (by decide) (by decide) (by decide) (by decide) (by decide) (by decide), F 14 0 (by decide) z01 (by decide) (by decide) (by decide) (by decide) (by decide) (by decide)]
    exact h4 k a b
  · rw [F 17 u hu.1 (by simpa [vN] using hu.2) (by decide) (by decide) (by decide) (by decide) (by decide) (by decide), F 18 u hu.1 (by simpa [vN] using hu.2) (by decide) (by decide) (by decide) (by decide) (by decide) (by decide)]
    exact h5 k a b
theorem vGr.tr {a b d : Nat → Int → Int} {A : Nat → Int → Nat} {N : Nat → Int} (h : vGr a b A N) (h' : vGr b d A N) : vGr a d A N := fun i j x y w1 w2 w3 w4 w5 w6 => by rw [h' i j x y w1 w2 w3 w4 w5 w6, h i j x y w1 w2 w3 w4 w5 w6]
theorem vSet_at {f : Int → Int} {pl t v : Int} : vSet f pl t v = if pl < 0 ∧ v = -1 - pl then t else f v := by
  unfold vSet updI
  by_cases h : 0 ≤ pl
  · rw [if_pos h, if_neg (by omega)]
  · rw [if_neg h]
    by_cases hv : v = -1 - pl
    · rw [if_pos hv, if_pos ⟨by omega, hv⟩]
    · rw [if_neg hv, if_neg (fun w => hv w.2)]
theorem vBack {f f' : Int → Int} {p0 p1 : Int} (h0 : -6 ≤ p0) (h1 : -6 ≤ p1) (hf : ∀ v, 0 ≤ v → v < 6 → ¬ (p0 < 0 ∧ v = -1 - p0) → ¬ (p1 < 0 ∧ v = -1 - p1) → f' v = f v) {v : Int} (a : 0 ≤ v) (b : v < 6) : vSet (vSet f' p1 (vKa f p1)) p0 (vKa f p0) v = f v := by
  rw [vSet_at, vSet_at]
  unfold vKa
  by_cases c0 : p0 < 0 ∧ v = -1 - p0
  · rw [if_pos c0, if_neg (by omega), ← c0.2]
  · rw [if_neg c0]
    by_cases c1 : p1 < 0 ∧ v = -1 - p1
    · rw [if_pos c1, if_neg (by omega), ← c1.2]
    · rw [if_neg c1]; exact hf v a b c0 c1
abbrev gV (dn : Nat) (post : (Nat → Int → Int) → (Nat → Int) → (Nat → Int) → Prop) (h : HpVR) (ai : Nat → Int → Int) (cn tm : Nat → Int) (x0 : Option Nat) (x1 x2 : Int) : Prop := wpVR_X32_give dn post h.kd h.an ai h.ar h.mX32_mappings h.mX32_atoms h.mX32_atomCount h.mX32_spanOf h.mX32_spanFrom h.mX32_spanTo h.mX32_spans h.mX32_unions h.mX32_given h.mX32_rowOf h.mX32_answers h.mX32_foundBy h.mX32_firstBy h.mX32_lastBy cn h.mX32_asked tm h.mX33_cells h.mX33_size h.mX34_mappings h.mX34_slots h.mX81_table h.mX81_templates h.mX81_columns h.mX82_places x0 x1 x2
/-- what is known while a union is gone through -/
def vCg (h : HpVR) (A : Nat → Int → Nat) (g : Nat → Nat × Int) (tb c sz mp at_ sp tr sl : Int → Int) (sc : Int) (M n : Nat) (u : Int) : Prop := vSh h A g M n tb ∧ vOK c sz mp M ∧ (n ≤ 4 ∧ (0 ≤ u ∧ u < 150) ∧ (0 ≤ sc ∧ sc ≤ 4)) ∧ (∀ k : Int, 0 ≤ k → k < n → (0 ≤ tr k ∧ tr k < M) ∧ 0 ≤ sl k ∧ sl k < 4) ∧ (∀ i : Int, 0 ≤ i → i < 2 * n → -6 ≤ vPl at_ i) ∧ (∀ i j : Int, 0 ≤ i → i < n → 0 ≤ j → j < n → sl i = sl j → mp (6 * tr i) = mp (6 * tr j)) ∧ (h.mX32_atomCount (A 0 0) = n ∧ h.mX32_spans (A 0 0) = sc ∧ vRZ h.mX33_size A sz) ∧ ∀ v, 0 ≤ v → v < 6 → h.mX32_asked (A 0 0) / 2 ^ v.toNat % 2 = 0 → ∀ i : Int, 0 ≤ i → i < 2 * n → vPl at_ i ≠ -1 - v
section
variable {h : HpVR} {A : Nat → Int → Nat} {g : Nat → Nat × Int} {tb c sz mp at_ sp tr sl : Int → Int} {sc : Int} {M n : Nat} {u : Int}
theorem vVec_no (X : vCg h A g tb c sz mp at_ sp tr sl sc M n u) {R : Int → Int} {v : Int} (a : 0 ≤ v) (b : v < 6) (hb : h.mX32_asked (A 0 0) / 2 ^ v.toNat % 2 = 0) : vVec c mp at_ n tr R v = -1 := by
  have hs := fstI_s (fun i => vPl at_ i = -1 - v) (2 * n)
  unfold vVec
  by_cases hl : fstI (fun i => vPl at_ i = -1 - v) (2 * n) < ((2 * n : Nat) : Int)
  · exact absurd (hs.2.1 hl) (X.2.2.2.2.2.2.2 v a b hb _ hs.1.1 (by omega))
  · rw [if_neg (by omega)]
theorem vCd_nn (X : vCg h A g tb c sz mp at_ sp tr sl sc M n u) {R : Int → Int} {i : Int} (a : 0 ≤ i) (b : i < 2 * n) (hr : 0 ≤ R (i / 2) ∧ R (i / 2) < sz (mp (6 * tr (i / 2)))) : 0 ≤ vCd c mp tr R i := by
  obtain ⟨S, hO, hn, ht, -⟩ := X
  have htk := (ht (i / 2) (by omega) (by omega)).1
  exact (hO.code htk.1 htk.2 hr.1 hr.2 (by omega) (by omega)).1
/-- an atom's two places are set back -/
theorem CVR_give193 {K : Int → (Nat → Int → Int) → (Nat → Int) → (Nat → Int) → Prop} {ai : Nat → Int → Int} {cn tm : Nat → Int} {k row one other : Int} (X : vCg h A g tb c sz mp at_ sp tr sl sc M n u) (hk : 0 ≤ k ∧ k < n) (hD : vDt ai h A tb c mp at_ sp tr sl sc M n u) (hrow : zR (row + 1))
    (hp : K (row + 1) (va_up ai (A 21 0) (vSet (vSet (ai (A 21 0)) (vPl at_ (2 * k + 1)) other) (vPl at_ (2 * k)) one)) cn tm) : wVR_X32_give_193 K (some (A 0 0)) row (some (A 11 k)) one other h.kd h.an ai h.mX32_given cn tm := by
  obtain ⟨S, hO, hn, ht, hl, -⟩ := X
  have e := hD.2.2.1 k hk.1 hk.2
  have l11 : h.an (A 11 k) = 2 := S.len 11 k (by decide) (by decide) hk.1 hk.2
  have p0 := (e.2 0 (by decide) (by decide)).1
  have p1 := (e.2 1 (by decide) (by decide)).1
  rw [show 3 * k + 1 + 0 = 3 * k + 1 by omega, ← vPl_0 (at_ := at_) (k := k)] at p0
  rw [show 3 * k + 1 + 1 = 3 * k + 2 by omega, ← vPl_1 (at_ := at_) (k := k)] at p1
  unfold wVR_X32_give_193
  refine kOn_some ⟨S.kd 11 k (by decide) hk.1 hk.2, by rw [l11]; decide, kOn_some ⟨S.kd 0 0 (by decide) (by decide) z01, CVR_setGiven (h := h.s_ai ai) S (by rw [p1]; exact hl _ (by omega) (by omega)) ⟨by rw [l11]; decide, ?_⟩⟩⟩
  have n11 : ∀ {x : Nat → Int → Int} {v : Int → Int}, va_up x (A 21 0) v (A 11 k) = x (A 11 k) := S.up 21 11 0 k ⟨by decide, z01⟩ hk (Or.inl (by decide))
  refine CVR_setGiven (h := h.s_ai (va_up ai (A 21 0) (vSet (ai (A 21 0)) (ai (A 11 k) 1) other))) S ?_ ⟨hrow, fun _ e1 => ?_⟩
  · show -6 ≤ va_up ai (A 21 0) (vSet (ai (A 21 0)) (ai (A 11 k) 1) other) (A 11 k) 0
    rw [n11, p0]; exact hl _ (by omega) (by omega)
  · subst e1
    have : va_up (va_up ai (A 21 0) (vSet (ai (A 21 0)) (ai (A 11 k) 1) other)) (A 21 0) (vSet (va_up ai (A 21 0) (vSet (ai (A 21 0)) (ai (A 11 k) 1) other) (A 21 0)) (va_up ai (A 21 0) (vSet (ai (A 21 0)) (ai (A 11 k) 1) other) (A 11 k) 0) one) = va_up ai (A 21 0) (vSet (vSet (ai (A 21 0)) (vPl at_ (2 * k + 1)) other) (vPl at_ (2 * k)) one) := by
      rw [va_up_up, va_up_self, n11, p0, p1]
    show K (row + 1) (va_up (va_up ai (A 21 0) (vSet (ai (A 21 0)) (ai (A 11 k) 1) other)) (A 21 0) (vSet (va_up ai (A 21 0) (vSet (ai (A 21 0)) (ai (A 11 k) 1) other) (A 21 0)) (va_up ai (A 21 0) (vSet (ai (A 21 0)) (ai (A 11 k) 1) other) (A 11 k) 0) one)) cn tm
    rw [this]; exact hp
end

/-! VirtualRewrite (room VR): give, its loop and its recursion -/
theorem cAn_c {ai ai' : Nat → Int → Int} {cn tm : Nat → Int} {A : Nat → Int → Nat} {s : VA} (h : cAn ai cn tm A s) (e3 : ai' (A 23 0) = ai (A 23 0)) (e4 : ai' (A 24 0) = ai (A 24 0)) (e5 : ai' (A 25 0) = ai (A 25 0)) (e6 : ai' (A 26 0) = ai (A 26 0)) : cAn ai' cn tm A s := by
  obtain ⟨h1, h2, h3⟩ := h
  refine ⟨h1, h2, fun i a b => ?_⟩
  rw [e3, e4, e5, e6]; exact h3 i a b
section
variable {A : Nat → Int → Nat} {g : Nat → Nat × Int} {tb : Int → Int} {M n : Nat} {h : HpVR}
theorem CVR_first {post : Int → Prop} {u k : Int} {sl : Int → Int} {r : Option Nat} (S : vSh h A g M n tb) (hu : 0 ≤ u ∧ u < 150) (hk : 0 ≤ k ∧ k < 4) (er : r = some (A 16 u)) (hs : ∀ j, 0 ≤ j → j ≤ k → h.ai (A 18 u) j = sl j) (h1 : uFirst sl k → post 1) (h0 : ¬ uFirst sl k → post 0) : uVR_X32_isFirstOfSlot post h r k := by
  unfold uVR_X32_isFirstOfSlot wpVR_X32_isFirstOfSlot
  have l18 : h.an (A 18 u) = 4 := S.len 18 u (by decide) (by decide) hu.1 hu.2
  obtain ⟨s1, s2, s3⟩ := S.uni u hu.1 hu.2
  refine wl2 _ (fun x i => (0 ≤ i ∧ i ≤ k) ∧ ((x = 1 ∧ ∀ j, 0 ≤ j → j < i → sl j ≠ sl k) ∨ (x = 0 ∧ ¬ uFirst sl k))) (fun x i => (k - i).toNat) ?_ 1 0 ⟨by omega, Or.inl ⟨rfl, fun j a b => by omega⟩⟩
  rintro x i ⟨hi, hx⟩ f ih
  rw [wVR_X32_isFirstOfSlot_4]
  refine ⟨fun z => ?_, fun z => ⟨fun e => ⟨by omega, fun _ e1 => ?_⟩, fun e => kOn_of er ⟨S.kd 16 u (by decide) hu.1 hu.2, kOn_of s3 ⟨S.kd 18 u (by decide) hu.1 hu.2, by rw [l18]; omega, by rw [l18]; omega, ?_⟩⟩⟩⟩
  · rcases hx with ⟨rfl, hx⟩ | ⟨rfl, hx⟩
    · exact ⟨Or.inr rfl, h1 (fun j a b => hx j a (by omega))⟩
    · exact ⟨Or.inl rfl, h0 hx⟩
  · subst e1
    rcases hx with ⟨e2, _⟩ | ⟨_, hx⟩
    · omega
    · exact ih _ _ ⟨by omega, Or.inr ⟨rfl, hx⟩⟩ (by omega)
  · have hx2 : ∀ j, 0 ≤ j → j < i → sl j ≠ sl k := by
      rcases hx with ⟨_, hx⟩ | ⟨e2, _⟩
      · exact hx
      · exact absurd e2 e
    rw [hs i hi.1 hi.2, hs k hk.1 (Int.le_refl _)]
    refine ⟨fun y => ⟨by omega, fun _ e1 => ?_⟩, fun y => ⟨by omega, fun _ e1 => ?_⟩⟩
    · subst e1
      exact ih _ _ ⟨by omega, Or.inr ⟨rfl, fun q => q i hi.1 (by omega) y⟩⟩ (by omega)
    · subst e1
      refine ih _ _ ⟨by omega, Or.inl ⟨rfl, fun j a b => ?_⟩⟩ (by omega)
      by_cases hj : j = i
      · subst hj; exact y
      · exact hx2 j a (by omega)
end
section
variable {h : HpVR} {A : Nat → Int → Nat} {g : Nat → Nat × Int} {tb c sz mp at_ sp tr sl : Int → Int} {sc : Int} {M n : Nat} {u : Int}
/-- where give stands: rows R for the atoms before k, answers s -/
def vGs (h : HpVR) (A : Nat → Int → Nat) (tb c sz mp at_ sp tr sl : Int → Int) (sc : Int) (M n : Nat) (u k : Int) (R : Int → Int) (s : VA) (ai : Nat → Int → Int) (cn tm : Nat → Int) : Prop :=
  vDt ai h A tb c mp at_ sp tr sl sc M n u ∧ (∀ j, 0 ≤ j → j < k → (0 ≤ R j ∧ R j < sz (mp (6 * tr j))) ∧ ai (A 22 0) (sl j) = R j) ∧ vGi c mp at_ tr R (2 * k) (ai (A 21 0)) ∧ (∀ i, 0 ≤ i → i < 2 * k → vCi c mp at_ sp sc tr R i) ∧ vSt u s ∧ vNo (fun v => h.mX32_asked (A 0 0) / 2 ^ v.toNat % 2 = 0) s ∧ cAn ai cn tm A s
/-- how give leaves it -/
def vGe (A : Nat → Int → Nat) (sl : Int → Int) (M n : Nat) (k : Int) (s : VA) (ai ai' : Nat → Int → Int) (cn tm : Nat → Int) : Prop := vGr ai ai' A (vN M n) ∧ (∀ v, 0 ≤ v → v < 6 → ai' (A 21 0) v = ai (A 21 0) v) ∧ (∀ j, 0 ≤ j → j < k → ai' (A 22 0) (sl j) = ai (A 22 0) (sl j)) ∧ cAn ai' cn tm A s
theorem CVR_give_end (X : vCg h A g tb c sz mp at_ sp tr sl sc M n u) {R : Int → Int} {s : VA} {ai : Nat → Int → Int} {cn tm : Nat → Int} {dn : Nat} {post : (Nat → Int → Int) → (Nat → Int) → (Nat → Int) → Prop} (hG : vGs h A tb c sz mp at_ sp tr sl sc M n u n R s ai cn tm)
    (hp : ∀ ai' cn' tm', vGe A sl M n n (noteS u (vVec c mp at_ n tr R) s) ai ai' cn' tm' → post ai' cn' tm') : gV (dn + 1) post h ai cn tm (some (A 0 0)) u n := by
  obtain ⟨hD, hr, hg, hc, hS, hN, hA⟩ := hG
  obtain ⟨S, hO, hn, ht, hl, htab, hx, hask⟩ := id X
  unfold gV
  rw [wpVR_X32_give]
  refine kOn_some ⟨S.kd 0 0 (by decide) (by decide) z01, fun _ => ?_, fun z => absurd hx.1.symm z⟩
  have goal := CVR_note (h := ((h.s_ai ai).s_mX32_answerCount cn).s_mX32_tooMany tm) (post := post) (u := u) (x := vVec c mp at_ n tr R) (s := s) S hn.2.1 hS hA (fun v a b => vGi_vec hg a b) (fun v a b w => ⟨vVec_no X a b w, hN v a b w⟩) (fun ai' cn' tm' F hA' => hp ai' cn' tm' ⟨fun i j a b _ _ w1 w2 w3 w4 => F i j a b w1 w2 w3 w4, fun v _ _ => ?_, fun j _ _ => ?_, hA'⟩)
  · dsimp only [uVR_X32_note, HpVR.s_ai, HpVR.s_mX32_answerCount, HpVR.s_mX32_tooMany] at goal
    exact goal
  · rw [F 21 0 (by decide) z01 (by decide) (by decide) (by decide) (by decide)]; rfl
  · rw [F 22 0 (by decide) z01 (by decide) (by decide) (by decide) (by decide)]; rfl
end

/-! VirtualRewrite (room VR): give, its loop and its recursion (2) -/
section
variable {h : HpVR} {A : Nat → Int → Nat} {g : Nat → Nat × Int} {tb c sz mp at_ sp tr sl : Int → Int} {sc : Int} {M n : Nat} {u : Int}
theorem CVR_give89 (X : vCg h A g tb c sz mp at_ sp tr sl sc M n u) {dn m : Nat} {k : Int} (hk : k = (n : Int) - ((m : Int) + 1)) (hk0 : 0 ≤ k)
    (hrec : ∀ (R : Int → Int) (s : VA) (ai : Nat → Int → Int) (cn tm : Nat → Int) (post : (Nat → Int → Int) → (Nat → Int) → (Nat → Int) → Prop), vGs h A tb c sz mp at_ sp tr sl sc M n u (k + 1) R s ai cn tm → (∀ ai' cn' tm', vGe A sl M n (k + 1) (vLkU c sz mp at_ sp tr sc n sl u m R s) ai ai' cn' tm' → post ai' cn' tm') → gV dn post h ai cn tm (some (A 0 0)) u (k + 1))
    {R : Int → Int} {s0 : VA} {ai0 : Nat → Int → Int} {cn0 tm0 : Nat → Int} (hG0 : vGs h A tb c sz mp at_ sp tr sl sc M n u k R s0 ai0 cn0 tm0) {from_ until_ : Int} (h0 : 0 ≤ from_ ∧ from_ ≤ until_ ∧ until_ ≤ sz (mp (6 * tr k))) (hsame : ∀ j, 0 ≤ j → j < k → sl j = sl k → ∀ r, from_ ≤ r → r < until_ → R j = r)
    {K : (Nat → Int → Int) → (Nat → Int) → (Nat → Int) → Prop} (hK : ∀ ai' cn' tm', vGe A sl M n k (vLp (fun r s => pif (vGo c mp at_ sp sc tr (updI R k r) k) (vLkU c sz mp at_ sp tr sc n sl u m (updI R k r) s) s) (until_ - from_).toNat from_ s0) ai0 ai' cn' tm' → K ai' cn' tm') :
    ∃ fu, wVR_X32_give_89 (wpVR_X32_give dn) K (some (A 0 0)) u k (some (A 16 u)) (some (A 6 (tr k))) until_ h.kd h.an h.ar h.mX32_mappings h.mX32_atoms h.mX32_atomCount h.mX32_spanOf h.mX32_spanFrom h.mX32_spanTo h.mX32_spans h.mX32_unions h.mX32_given h.mX32_rowOf h.mX32_answers h.mX32_foundBy h.mX32_firstBy h.mX32_lastBy h.mX32_asked h.mX33_cells h.mX33_size h.mX34_mappings h.mX34_slots h.mX81_table h.mX81_templates h.mX81_columns h.mX82_places fu from_ ai0 cn0 tm0 := by
  obtain ⟨S, hO, hn, ht, hl, htab, hx, hask⟩ := id X
  have hkn : 0 ≤ k ∧ k < n := ⟨hk0, by omega⟩
  have htk := ht k hkn.1 hkn.2
  have hsz := hO.2.1 _ (hO.2.2.1 _ htk.1.1 htk.1.2).1.1 (hO.2.2.1 _ htk.1.1 htk.1.2).1.2
  have up : ∀ (i i' : Nat) {f : Nat → Int → Int} {v : Int → Int}, vN M n i = 1 → vN M n i' = 1 → i ≠ i' → va_up f (A i 0) v (A i' 0) = f (A i' 0) := fun i i' f v e e' w => S.up i i' 0 0 ⟨by decide, by rw [e]; exact z01⟩ ⟨by decide, by rw [e']; exact z01⟩ (Or.inl w)
  generalize hstep : (fun r s => pif (vGo c mp at_ sp sc tr (updI R k r) k) (vLkU c sz mp at_ sp tr sc n sl u m (updI R k r) s) s) = step at hK
  refine wl4 (fun q row ai cn tm => wVR_X32_give_89 (wpVR_X32_give dn) K (some (A 0 0)) u k (some (A 16 u)) (some (A 6 (tr k))) until_ h.kd h.an h.ar h.mX32_mappings h.mX32_atoms h.mX32_atomCount h.mX32_spanOf h.mX32_spanFrom h.mX32_spanTo h.mX32_spans h.mX32_unions h.mX32_given h.mX32_rowOf h.mX32_answers h.mX32_foundBy h.mX32_firstBy h.mX32_lastBy h.mX32_asked h.mX33_cells h.mX33_size h.mX34_mappings h.mX34_slots h.mX81_table h.mX81_templates h.mX81_columns h.mX82_places q row ai cn tm)
    (fun row ai cn tm => ∃ s, (from_ ≤ row ∧ row ≤ until_) ∧ vLp step (until_ - row).toNat row s = vLp step (until_ - from_).toNat from_ s0 ∧ vGe A sl M n k s ai0 ai cn tm ∧ vSt u s ∧ vNo (fun v => h.mX32_asked (A 0 0) / 2 ^ v.toNat % 2 = 0) s) (fun row _ _ _ => (until_ - row).toNat) ?_ from_ ai0 cn0 tm0 ⟨s0, by omega, rfl, ⟨fun i j _ _ _ _ _ _ _ _ => rfl, fun _ _ _ => rfl, fun _ _ _ => rfl, hG0.2.2.2.2.2.2⟩, hG0.2.2.2.2.1, hG0.2.2.2.2.2.1⟩
  rintro row ai cn tm ⟨s, hrow, hvl, ⟨hF, h21, h22, hA⟩, hS, hN⟩ q ih
  have hD := vDt_c hn.2.1 hF hG0.1
  have endK : ∀ {s'}, s' = vLp step (until_ - from_).toNat from_ s0 → s = s' → K ai cn tm := fun e1 e2 => hK ai cn tm ⟨hF, h21, h22, by rw [← e1, ← e2]; exact hA⟩
  rw [wVR_X32_give_89]
  refine ⟨fun z => ?_, fun z => kOn_some ⟨S.kd 0 0 (by decide) (by decide) z01, fun z1 => ?_, fun z1 => ?_⟩⟩
  · rw [show (until_ - row).toNat = 0 by omega] at hvl
    exact endK hvl rfl
  rotate_left
  · rw [hA.2.1] at z1
    rw [vLp_big z1] at hvl
    exact endK hvl rfl
  rw [hA.2.1] at z1
  rw [show (until_ - row).toNat = (until_ - (row + 1)).toNat + 1 by omega] at hvl
  rw [vLp, if_pos z1] at hvl
  -- the next row
  have next : ∀ (s' : VA) (ai' : Nat → Int → Int) (cn' tm' : Nat → Int), s' = step row s → vSt u s' → vNo (fun v => h.mX32_asked (A 0 0) / 2 ^ v.toNat % 2 = 0) s' → vGr ai ai' A (vN M n) → (∀ v, 0 ≤ v → v < 6 → ¬ (vPl at_ (2 * k) < 0 ∧ v = -1 - vPl at_ (2 * k)) → ¬ (vPl at_ (2 * k + 1) < 0 ∧ v = -1 - vPl at_ (2 * k + 1)) → ai' (A 21 0) v = ai (A 21 0) v) → (∀ j, 0 ≤ j → j < k → ai' (A 22 0) (sl j) = ai (A 22 0) (sl j)) → cAn ai' cn' tm' A s' →
      wVR_X32_give_193 (wVR_X32_give_89 (wpVR_X32_give dn) K (some (A 0 0)) u k (some (A 16 u)) (some (A 6 (tr k))) until_ h.kd h.an h.ar h.mX32_mappings h.mX32_atoms h.mX32_atomCount h.mX32_spanOf h.mX32_spanFrom h.mX32_spanTo h.mX32_spans h.mX32_unions h.mX32_given h.mX32_rowOf h.mX32_answers h.mX32_foundBy h.mX32_firstBy h.mX32_lastBy h.mX32_asked h.mX33_cells h.mX33_size h.mX34_mappings h.mX34_slots h.mX81_table h.mX81_templates h.mX81_columns h.mX82_places q) (some (A 0 0)) row (some (A 11 k)) (vKa (ai (A 21 0)) (vPl at_ (2 * k))) (vKa (ai (A 21 0)) (vPl at_ (2 * k + 1))) h.kd h.an ai' h.mX32_given cn' tm' := by
    intro s' ai' cn' tm' es' hS' hN' hF' h21' h22' hA'
    refine CVR_give193 X hkn (vDt_c hn.2.1 hF' hD) (by omega) (ih _ _ _ _ ⟨s', by omega, by rw [es']; exact hvl, ⟨hF.tr (hF'.tr (fun i j a b w1 w2 w3 w4 w5 w6 => S.up 21 i 0 j ⟨by decide, z01⟩ ⟨a, b⟩ (Or.inl (Ne.symm w1)))), fun v a b => ?_, fun j a b => ?_, ?_⟩, hS', hN'⟩ (by omega))
    · rw [va_up_self, vBack (hl _ (by omega) (by omega)) (hl _ (by omega) (by omega)) (fun v a b w1 w2 => h21' v a b w1 w2) a b]
      exact h21 v a b
    · rw [up 21 22 rfl rfl (by decide), h22' j a b]; exact h22 j a b
    · exact cAn_c hA' (up 21 23 rfl rfl (by decide)) (up 21 24 rfl rfl (by decide)) (up 21 25 rfl rfl (by decide)) (up 21 26 rfl rfl (by decide))
  have eat := S.atm k hkn.1 hkn.2
  have euni := S.uni u hn.2.1.1 hn.2.1.2
  have l9 : h.an (A 9 0) = 4 := S.len 9 0 (by decide) (by decide) (by decide) z01
  have l11 : h.an (A 11 k) = 2 := S.len 11 k (by decide) (by decide) hkn.1 hkn.2
  have l18 : h.an (A 18 u) = 4 := S.len 18 u (by decide) (by decide) hn.2.1.1 (by simpa [vN] using hn.2.1.2)
  have l22 : h.an (A 22 0) = 4 := S.len 22 0 (by decide) (by decide) (by decide) z01
  have ea := hD.2.2.1 k hkn.1 hkn.2
  have p0 := (ea.2 0 (by decide) (by decide)).1
  have p1 := (ea.2 1 (by decide) (by decide)).1
  rw [show 3 * k + 1 + 0 = 3 * k + 1 by omega, ← vPl_0 (at_ := at_) (k := k)] at p0
  rw [show 3 * k + 1 + 1 = 3 * k + 2 by omega, ← vPl_1 (at_ := at_) (k := k)] at p1
  have hl0 := hl (2 * k) (by omega) (by omega)
  have hl1 := hl (2 * k + 1) (by omega) (by omega)
  have esl := (hD.2.2.2.2 k hkn.1 hkn.2).2
  refine kOn_of S.rt.2.2.1 ⟨S.kd 9 0 (by decide) (by decide) z01, by rw [l9]; omega, fun _ e1 => kOn_of (e1.trans eat.1) ⟨S.kd 10 k (by decide) hkn.1 hkn.2, fun _ e2 => ?_⟩⟩
  rw [eat.2] at e2
  subst e2
  refine kOn_some ⟨S.kd 11 k (by decide) hkn.1 hkn.2, by rw [l11]; decide, CVR_givenAt (h := h.s_ai ai) S (by rw [p0]; exact hl0) ⟨by rw [l11]; decide, CVR_givenAt (h := h.s_ai ai) S (by rw [p1]; exact hl1) ?_⟩⟩
  show kOn (some (A 16 u)) _
  rw [p0, p1]
  refine kOn_some ⟨S.kd 16 u (by decide) hn.2.1.1 (by simpa [vN] using hn.2.1.2), kOn_of euni.2.2 ⟨S.kd 18 u (by decide) hn.2.1.1 (by simpa [vN] using hn.2.1.2), by rw [l18]; omega, kOn_of S.rw.2.2.2 ⟨S.kd 22 0 (by decide) (by decide) z01, by rw [l22, esl]; omega, fun ai1 e3 => ?_⟩⟩⟩
  rw [esl] at e3
  have F1 : vGr ai ai1 A (vN M n) := fun i j a b w1 w2 w3 w4 w5 w6 => by rw [e3]; exact S.up 22 i 0 j ⟨by decide, z01⟩ ⟨a, b⟩ (Or.inl (Ne.symm w2))
  have D1 := vDt_c hn.2.1 F1 hD
  have g1 : ai1 (A 21 0) = ai (A 21 0) := by rw [e3]; exact up 22 21 rfl rfl (by decide)
  have r1 : ai1 (A 22 0) = updI (ai (A 22 0)) (sl k) row := by rw [e3, va_up_self]
  have A1 : cAn ai1 cn tm A s := cAn_c hA (by rw [e3]; exact up 22 23 rfl rfl (by decide)) (by rw [e3]; exact up 22 24 rfl rfl (by decide)) (by rw [e3]; exact up 22 25 rfl rfl (by decide)) (by rw [e3]; exact up 22 26 rfl rfl (by decide))
  have hRk : ∀ j, 0 ≤ j → j < k → updI R k row j = R j := fun j a b => updI_n (by omega)
  have row22 : ∀ j, 0 ≤ j → j < k → ai1 (A 22 0) (sl j) = ai (A 22 0) (sl j) := by
    intro j a b
    rw [r1]
    by_cases hj : sl j = sl k
    · rw [hj, updI_s, ← hj, h22 j a b, (hG0.2.1 j a b).2, hsame j a b hj row hrow.1 (by omega)]
    · rw [updI_n hj]
  have hcd : ∀ i, 0 ≤ i → i < 2 * k + 2 → 0 ≤ vCd c mp tr (updI R k row) i := by
    intro i a b
    refine vCd_nn X a (by omega) ?_
    by_cases hi : i / 2 = k
    · rw [hi, updI_s]; omega
    · rw [updI_n hi]; exact (hG0.2.1 _ (by omega) (by omega)).1
  have G1 : vGi c mp at_ tr (updI R k row) (2 * k) (ai1 (A 21 0)) := vGi_c hG0.2.2.1 (fun v a b => by rw [g1]; exact h21 v a b) (fun i a b => vCd_c (hRk _ (by omega) (by omega)))
  have C1 : ∀ i, 0 ≤ i → i < 2 * k → vCi c mp at_ sp sc tr (updI R k row) i := by
    intro i a b
    have w := hG0.2.2.2.1 i a b
    have ee : ∀ j, 0 ≤ j → j < 2 * k → vCd c mp tr (updI R k row) j = vCd c mp tr R j := fun j x y => vCd_c (hRk _ (by omega) (by omega))
    unfold vCi
    rw [ee i a b]
    exact ⟨w.1, fun y => ⟨fun j x1 x2 x3 => by rw [ee j x1 (by omega)]; exact (w.2 y).1 j x1 x2 x3, (w.2 y).2⟩⟩
  have e0 : vCd c mp tr (updI R k row) (2 * k) = vCode c mp (tr k) row 0 := by unfold vCd; rw [show 2 * k / 2 = k by omega, show 2 * k % 2 = 0 by omega, updI_s]
  have e1' : vCd c mp tr (updI R k row) (2 * k + 1) = vCode c mp (tr k) row 1 := by unfold vCd; rw [show (2 * k + 1) / 2 = k by omega, show (2 * k + 1) % 2 = 1 by omega, updI_s]
  have st0 : ∀ {s'}, ¬ vGo c mp at_ sp sc tr (updI R k row) k → s' = s → s' = step row s := fun w e => by rw [e, ← hstep]; dsimp only; rw [pif_f w]
  have hrw : 0 ≤ row ∧ row < sz (mp (6 * tr k)) := by omega
  refine kOn_some ⟨S.kd 6 (tr k) (by decide) htk.1.1 htk.1.2, CVR_code (h := h.s_ai ai1) S D1.1 D1.2.1 hO htk.1 hrw (by decide) ?_⟩
  rw [show ai1 (A 11 k) = ai (A 11 k) from F1 11 k hkn.1 hkn.2 (by decide) (by decide) (by decide) (by decide) (by decide) (by decide), p0, ← e0]
  have T0 := vGi_tk (sp := sp) (sc := sc) G1 (by omega) hl0 (fun i a b => hcd i a (by omega)) C1
  refine CVR_takes (h := h.s_ai ai1) S hn.2.2 hx.2.1 D1.2.2.2.1 (hcd _ (by omega) (by omega)) hl0 (fun w => ⟨fun y => absurd y (by decide), fun _ => ?_⟩) (fun w => ⟨fun _ => ?_, fun y => absurd rfl y⟩)
  rotate_left
  · exact next s ai1 cn tm (st0 (fun y => w (T0.mpr (vGo_ci.mp y).1)) rfl) hS hN F1 (fun v _ _ _ _ => by rw [g1]) row22 A1
  have c0 := T0.mp w
  generalize e2 : va_up (h.s_ai ai1).ai (A 21 0) (vSet ((h.s_ai ai1).ai (A 21 0)) (vPl at_ (2 * k)) (vCd c mp tr (updI R k row) (2 * k))) = ai2
  have e2 : ai2 = va_up ai1 (A 21 0) (vSet (ai1 (A 21 0)) (vPl at_ (2 * k)) (vCd c mp tr (updI R k row) (2 * k))) := e2.symm
  have F2 : vGr ai1 ai2 A (vN M n) := fun i j a b w1 w2 w3 w4 w5 w6 => by rw [e2]; exact S.up 21 i 0 j ⟨by decide, z01⟩ ⟨a, b⟩ (Or.inl (Ne.symm w1))
  have D2 := vDt_c hn.2.1 F2 D1
  have g2 : ai2 (A 21 0) = vSet (ai1 (A 21 0)) (vPl at_ (2 * k)) (vCd c mp tr (updI R k row) (2 * k)) := by rw [e2, va_up_self]
  have r2 : ai2 (A 22 0) = ai1 (A 22 0) := by rw [e2]; exact up 21 22 rfl rfl (by decide)
  have A2 : cAn ai2 cn tm A s := cAn_c A1 (by rw [e2]; exact up 21 23 rfl rfl (by decide)) (by rw [e2]; exact up 21 24 rfl rfl (by decide)) (by rw [e2]; exact up 21 25 rfl rfl (by decide)) (by rw [e2]; exact up 21 26 rfl rfl (by decide))
  have G2 := vGi_set (by omega) G1 c0
  rw [← g2] at G2
  have C2 : ∀ i, 0 ≤ i → i < 2 * k + 1 → vCi c mp at_ sp sc tr (updI R k row) i := by
    intro i a b
    by_cases hi : i = 2 * k
    · rw [hi]; exact c0
    · exact C1 i a (by omega)
  have T1 := vGi_tk (sp := sp) (sc := sc) G2 (by omega) hl1 (fun i a b => hcd i a (by omega)) C2
  refine CVR_code (h := h.s_ai ai2) S D2.1 D2.2.1 hO htk.1 hrw (by decide) ?_
  rw [show ai2 (A 11 k) = ai (A 11 k) from (F2 11 k hkn.1 hkn.2 (by decide) (by decide) (by decide) (by decide) (by decide) (by decide)).trans (F1 11 k hkn.1 hkn.2 (by decide) (by decide) (by decide) (by decide) (by decide) (by decide)), p1, ← e1']
  refine CVR_takes (h := h.s_ai ai2) S hn.2.2 hx.2.1 D2.2.2.2.1 (hcd _ (by omega) (by omega)) hl1 (fun w2 => ⟨fun y => absurd y (by decide), fun _ => ⟨by omega, ?_⟩⟩) (fun w2 => ⟨fun _ => ?_, fun y => absurd rfl y⟩)
  rotate_left
  · exact next s ai2 cn tm (st0 (fun y => w2 (T1.mpr (vGo_ci.mp y).2)) rfl) hS hN (F1.tr F2) (fun v _ _ w3 _ => by rw [g2, vSet_at, if_neg w3, g1]) (fun j a b => by rw [r2]; exact row22 j a b) A2
  have c1 := T1.mp w2
  generalize e4 : va_up (h.s_ai ai2).ai (A 21 0) (vSet ((h.s_ai ai2).ai (A 21 0)) (vPl at_ (2 * k + 1)) (vCd c mp tr (updI R k row) (2 * k + 1))) = ai3
  have e4 : ai3 = va_up ai2 (A 21 0) (vSet (ai2 (A 21 0)) (vPl at_ (2 * k + 1)) (vCd c mp tr (updI R k row) (2 * k + 1))) := e4.symm
  have F3 : vGr ai2 ai3 A (vN M n) := fun i j a b w1 w2 w3 w4 w5 w6 => by rw [e4]; exact S.up 21 i 0 j ⟨by decide, z01⟩ ⟨a, b⟩ (Or.inl (Ne.symm w1))
  have D3 := vDt_c hn.2.1 F3 D2
  have g3 : ai3 (A 21 0) = vSet (ai2 (A 21 0)) (vPl at_ (2 * k + 1)) (vCd c mp tr (updI R k row) (2 * k + 1)) := by rw [e4, va_up_self]
  have r3 : ai3 (A 22 0) = ai1 (A 22 0) := by rw [e4, ← r2]; exact up 21 22 rfl rfl (by decide)
  have A3 : cAn ai3 cn tm A s := cAn_c A2 (by rw [e4]; exact up 21 23 rfl rfl (by decide)) (by rw [e4]; exact up 21 24 rfl rfl (by decide)) (by rw [e4]; exact up 21 25 rfl rfl (by decide)) (by rw [e4]; exact up 21 26 rfl rfl (by decide))
  have G3 := vGi_set (by omega) G2 c1
  rw [← g3, show 2 * k + 1 + 1 = 2 * (k + 1) by omega] at G3
  have hgo : vGo c mp at_ sp sc tr (updI R k row) k := vGo_ci.mpr ⟨c0, c1⟩
  have estep : vLkU c sz mp at_ sp tr sc n sl u m (updI R k row) s = step row s := by rw [← hstep]; dsimp only; rw [pif_t hgo]
  have hR22 : ∀ j, 0 ≤ j → j < k + 1 → ai3 (A 22 0) (sl j) = updI R k row j := by
    intro j a b
    rw [r3]
    by_cases hj : j = k
    · rw [hj, r1, updI_s, updI_s]
    · rw [row22 j a (by omega), h22 j a (by omega), (hG0.2.1 j a (by omega)).2, updI_n hj]
  refine hrec (updI R k row) s ai3 cn tm _ ⟨D3, fun j a b => ⟨?_, hR22 j a b⟩, G3, fun i a b => ?_, hS, hN, A3⟩ (fun ai' cn' tm' hE => ?_)
  · by_cases hj : j = k
    · rw [hj, updI_s]; exact hrw
    · rw [updI_n hj]; exact (hG0.2.1 j a (by omega)).1
  · by_cases hi : i = 2 * k + 1
    · rw [hi]; exact c1
    · exact C2 i a (by omega)
  · obtain ⟨q1, q2, q3, q4⟩ := hE
    refine next _ ai' cn' tm' estep (vLk_st hn.2.1.1 m _ s hS) (vLk_no hn.2.1.1 (fun R v a b w => vVec_no X a b w) m _ s hS hN) (F1.tr (F2.tr (F3.tr q1))) (fun v a b w3 w4 => ?_) (fun j a b => ?_) q4
    · rw [q2 v a b, g3, vSet_at, if_neg w4, g2, vSet_at, if_neg w3, g1]
    · rw [q3 j a (by omega), r3]; exact row22 j a b
theorem CVR_give (X : vCg h A g tb c sz mp at_ sp tr sl sc M n u) : ∀ (m dn : Nat) (k : Int) (R : Int → Int) (s : VA) (ai : Nat → Int → Int) (cn tm : Nat → Int) (post : (Nat → Int → Int) → (Nat → Int) → (Nat → Int) → Prop), m < dn → k = (n : Int) - m → 0 ≤ k → vGs h A tb c sz mp at_ sp tr sl sc M n u k R s ai cn tm → (∀ ai' cn' tm', vGe A sl M n k (vLkU c sz mp at_ sp tr sc n sl u m R s) ai ai' cn' tm' → post ai' cn' tm') → gV dn post h ai cn tm (some (A 0 0)) u k := by
  obtain ⟨S, hO, hn, ht, hl, htab, hx, hask⟩ := id X
  intro m
  induction m with
  | zero =>
    intro dn k R s ai cn tm post hd hk _ hG hp
    obtain ⟨dn, rfl⟩ : ∃ z, dn = z + 1 := ⟨dn - 1, by omega⟩
    have : k = n := by omega
    subst this
    exact CVR_give_end X hG hp
  | succ m ih =>
    intro dn k R s ai cn tm post hd hk hk0 hG hp
    obtain ⟨dn, rfl⟩ : ∃ z, dn = z + 1 := ⟨dn - 1, by omega⟩
    have hkn : 0 ≤ k ∧ k < n := ⟨hk0, by omega⟩
    have htk := ht k hkn.1 hkn.2
    have hmk := (hO.2.2.1 _ htk.1.1 htk.1.2).1
    have euni := S.uni u hn.2.1.1 hn.2.1.2
    have emap := S.map (tr k) htk.1.1 htk.1.2
    have l15 : h.an (A 15 0) = 150 := S.len 15 0 (by decide) (by decide) (by decide) z01
    have l5 : h.an (A 5 0) = 12 := S.len 5 0 (by decide) (by decide) (by decide) z01
    have l17 : h.an (A 17 u) = 4 := S.len 17 u (by decide) (by decide) hn.2.1.1 (by simpa [vN] using hn.2.1.2)
    have l18 : h.an (A 18 u) = 4 := S.len 18 u (by decide) (by decide) hn.2.1.1 (by simpa [vN] using hn.2.1.2)
    have l22 : h.an (A 22 0) = 4 := S.len 22 0 (by decide) (by decide) (by decide) z01
    have hu150 : u < vN M n 16 := by simpa [vN] using hn.2.1.2
    have eD := hG.1.2.2.2.2 k hkn.1 hkn.2
    have hM12 : (M : Int) ≤ 12 := hO.1.2
    have key : ∀ (fr un : Int), 0 ≤ fr → fr ≤ un → un ≤ sz (mp (6 * tr k)) → (∀ j, 0 ≤ j → j < k → sl j = sl k → ∀ r, fr ≤ r → r < un → R j = r) → vLkU c sz mp at_ sp tr sc n sl u (m + 1) R s = vLp (fun r s => pif (vGo c mp at_ sp sc tr (updI R k r) k) (vLkU c sz mp at_ sp tr sc n sl u m (updI R k r) s) s) (un - fr).toNat fr s →
        ∃ fu, wVR_X32_give_89 (wpVR_X32_give dn) (fun ai cn tm => post ai cn tm) (some (A 0 0)) u k (some (A 16 u)) (some (A 6 (tr k))) un h.kd h.an h.ar h.mX32_mappings h.mX32_atoms h.mX32_atomCount h.mX32_spanOf h.mX32_spanFrom h.mX32_spanTo h.mX32_spans h.mX32_unions h.mX32_given h.mX32_rowOf h.mX32_answers h.mX32_foundBy h.mX32_firstBy h.mX32_lastBy h.mX32_asked h.mX33_cells h.mX33_size h.mX34_mappings h.mX34_slots h.mX81_table h.mX81_templates h.mX81_columns h.mX82_places fu fr ai cn tm := by
      intro fr un a b d hs e
      exact CVR_give89 X (by omega) hk0 (fun R s ai cn tm post hG hp => ih dn (k + 1) R s ai cn tm post (by omega) (by omega) (by omega) hG hp) hG ⟨a, b, d⟩ hs (fun ai' cn' tm' hE => hp ai' cn' tm' (by rw [e]; exact hE))
    obtain ⟨l1, l2, l3⟩ := vLd_s sl hk0
    have spec : vLkU c sz mp at_ sp tr sc n sl u (m + 1) R s = if vLd sl k < k then (if s.2.2.2.2.2 = 0 then pif (vGo c mp at_ sp sc tr (updI R k (R (vLd sl k))) k) (vLkU c sz mp at_ sp tr sc n sl u m (updI R k (R (vLd sl k))) s) s else s) else vLp (fun r s => pif (vGo c mp at_ sp sc tr (updI R k r) k) (vLkU c sz mp at_ sp tr sc n sl u m (updI R k r) s) s) (sz (mp (6 * tr k))).toNat 0 s := by
      unfold vLkU
      rw [vLk, show (n : Int) - ((m : Int) + 1) = k by omega]
    have hsz := hO.2.1 _ hmk.1 hmk.2
    unfold gV
    rw [wpVR_X32_give]
    refine kOn_some ⟨S.kd 0 0 (by decide) (by decide) z01, fun z => by rw [hx.1] at z; omega, fun _ => kOn_of S.rt.2.2.2 ⟨S.kd 15 0 (by decide) (by decide) z01, by rw [l15]; omega, fun _ e1 => kOn_of (e1.trans euni.1) ⟨S.kd 16 u (by decide) hn.2.1.1 hu150, kOn_of euni.2.1 ⟨S.kd 17 u (by decide) hn.2.1.1 hu150, by rw [l17]; omega, kOn_of S.rt.2.1 ⟨S.kd 5 0 (by decide) (by decide) z01, by rw [l5, eD.1]; omega, fun _ e2 => ?_⟩⟩⟩⟩⟩
    rw [eD.1, emap.1] at e2
    rw [euni.1] at e1
    subst e1 e2
    refine CVR_first (h := h.s_ai ai) (sl := sl) S hn.2.1 ⟨hk0, by omega⟩ rfl (fun j a b => (hG.1.2.2.2.2 j a (by omega)).2) (fun hf => ⟨fun z => absurd z (by decide), fun _ => ?_⟩) (fun hf => ⟨fun _ => ?_, fun z => absurd rfl z⟩)
    · have hld : ¬ vLd sl k < k := fun w => hf _ l1.1 w l2
      rw [if_neg hld] at spec
      unfold wVR_X32_give_61
      refine ⟨fun z => absurd z (by decide), fun _ => kOn_some ⟨S.kd 6 (tr k) (by decide) htk.1.1 htk.1.2, kOn_of emap.2.1 ⟨S.kd 1 (tb (tr k)) (by decide) emap.2.2.2.2.1 emap.2.2.2.2.2, fun _ e3 => ?_⟩⟩⟩
      rw [hx.2.2 _ emap.2.2.2.2.1 emap.2.2.2.2.2, (hG.1.2.1 _ htk.1.1 htk.1.2).1] at e3
      subst e3
      exact key 0 _ (by omega) hsz.1 (Int.le_refl _) (fun j a b w => absurd w (hf j a b)) (by rw [spec, Int.sub_zero])
    · have hld : vLd sl k < k := by
        apply Classical.byContradiction
        intro w
        exact hf (fun j a b => l3 j a (by omega))
      rw [if_pos hld] at spec
      have hrl := hG.2.1 _ l1.1 hld
      have etab := htab k _ hkn.1 hkn.2 l1.1 (by omega) l2.symm
      have hrk := hrl.1
      rw [← etab] at hrk
      refine kOn_of euni.2.2 ⟨S.kd 18 u (by decide) hn.2.1.1 hu150, by rw [l18]; omega, kOn_of S.rw.2.2.2 ⟨S.kd 22 0 (by decide) (by decide) z01, by rw [l22, eD.2]; omega, ?_⟩⟩
      rw [eD.2, ← l2, hrl.2]
      unfold wVR_X32_give_61
      refine ⟨fun _ => ⟨by omega, fun _ e3 => ?_⟩, fun z => absurd rfl z⟩
      subst e3
      refine key _ _ hrl.1.1 (by omega) (by rw [etab]; omega) (fun j a b w r x y => ?_) ?_
      · have := (hG.2.1 j a b).2
        rw [w, ← l2, hrl.2] at this
        omega
      · rw [spec, show (R (vLd sl k) + 1 - R (vLd sl k)).toNat = 1 by omega]
        rfl
end

/-! VirtualRewrite (room VR): which variables are asked -/
def aB (at_ : Int → Int) (N a : Int) : Prop := zR a ∧ ∀ b : Nat, b < 32 → (zb a b = 1 ↔ ∃ i, 0 ≤ i ∧ i < N ∧ vPl at_ i = -1 - (b : Int))
theorem zR_pow {t : Nat} (h : t < 31) : zR ((2 : Int) ^ t) := by
  have h1 : 2 ^ t ≤ 2 ^ 30 := Nat.pow_le_pow_right (by decide) (by omega)
  have h2 : (0 : Int) < 2 ^ t := Int.pow_pos (by decide)
  have h3 : (2 : Int) ^ t = ((2 ^ t : Nat) : Int) := by push_cast; rfl
  rw [h3] at h2 ⊢
  constructor <;> omega
theorem zor_0 {a : Int} (h : zR a) : zor a 0 = a := zb_ext32 (zr_or32 _ _) h (fun k hk => by rw [zb_or32 h (by decide) hk, zb_zero]; simp)
theorem aB_0 {at_ : Int → Int} {N a : Int} (h : aB at_ N a) (hp : 0 ≤ vPl at_ N) : aB at_ (N + 1) (zor a 0) := by
  rw [zor_0 h.1]
  refine ⟨h.1, fun b hb => (h.2 b hb).trans ⟨fun ⟨i, x, y, z⟩ => ⟨i, x, by omega, z⟩, fun ⟨i, x, y, z⟩ => ⟨i, x, ?_, z⟩⟩⟩
  by_cases hi : i = N
  · subst hi; omega
  · omega
theorem aB_1 {at_ : Int → Int} {N a : Int} (hN : 0 ≤ N) (h : aB at_ N a) (hp : vPl at_ N < 0) (hl : -6 ≤ vPl at_ N) : aB at_ (N + 1) (zor a (2 ^ (-1 - vPl at_ N).toNat)) := by
  have hr : zR ((2 : Int) ^ (-1 - vPl at_ N).toNat) := zR_pow (by omega)
  refine ⟨zr_or32 _ _, fun b hb => ?_⟩
  rw [zb_or32 h.1 hr hb, zb_pow, h.2 b hb]
  constructor
  · rintro (⟨i, x, y, z⟩ | e)
    · exact ⟨i, x, by omega, z⟩
    · exact ⟨N, hN, by omega, by omega⟩
  · rintro ⟨i, x, y, z⟩
    by_cases hi : i = N
    · subst hi; exact Or.inr (by omega)
    · exact Or.inl ⟨i, x, by omega, z⟩
section
variable {h : HpVR} {A : Nat → Int → Nat} {g : Nat → Nat × Int} {tb at_ : Int → Int} {M n : Nat}
theorem CVR_run53 {K : (Nat → Int) → Prop} {ai : Nat → Int → Int} {k : Int} {as : Nat → Int} (S : vSh h A g M n tb) (hk : 0 ≤ k ∧ k < n) (hA : vRA ai h.mX82_predicate A at_ n) (ha : aB at_ (2 * k) (as (A 0 0))) (hp : ∀ as', aB at_ (2 * k + 2) (as' (A 0 0)) → K as') :
    ∃ fu, wVR_X32_run_53 K (A 0 0) (some (A 11 k)) 2 h.kd h.an ai fu 0 as := by
  have l11 : h.an (A 11 k) = 2 := S.len 11 k (by decide) (by decide) hk.1 hk.2
  have e := (hA k hk.1 hk.2).2
  have epl : ∀ p, 0 ≤ p → p < 2 → ai (A 11 k) p = vPl at_ (2 * k + p) ∧ -6 ≤ vPl at_ (2 * k + p) := by
    intro p a b
    have := e p a b
    have e2 : vPl at_ (2 * k + p) = at_ (3 * k + 1 + p) := by unfold vPl; rw [show (2 * k + p) / 2 = k by omega, show (2 * k + p) % 2 = p by omega]
    rw [e2]; exact this
  refine wl2 (fun q x as => wVR_X32_run_53 K (A 0 0) (some (A 11 k)) 2 h.kd h.an ai q x as) (fun x as => (0 ≤ x ∧ x ≤ 2) ∧ aB at_ (2 * k + x) (as (A 0 0))) (fun x _ => (2 - x).toNat) ?_ 0 as ⟨by omega, by rw [Int.add_zero]; exact ha⟩
  rintro x as ⟨hx, hb⟩ q ih
  rw [wVR_X32_run_53]
  refine ⟨fun z => ?_, fun z => kOn_some ⟨S.kd 11 k (by decide) hk.1 hk.2, by rw [l11]; omega, fun _ e1 => ?_⟩⟩
  · have : x = 2 := by omega
    subst this; exact hp as hb
  have ep := epl x hx.1 (by omega)
  rw [ep.1] at e1
  subst e1
  refine ⟨fun y _ e2 as' e3 => ⟨by omega, fun _ e4 => ?_⟩, fun y => ⟨by omega, by omega, fun _ e2 as' e3 => ⟨by omega, fun _ e4 => ?_⟩⟩⟩
  · subst e4 e2
    refine ih _ _ ⟨by omega, ?_⟩ (by omega)
    rw [e3, va_up_self, ← Int.add_assoc]; exact aB_0 hb y
  · subst e4 e2
    refine ih _ _ ⟨by omega, ?_⟩ (by omega)
    rw [e3, va_up_self, ← Int.add_assoc]; exact aB_1 (by omega) hb (by omega) ep.2
theorem CVR_run28 {K : (Nat → Int) → Prop} {ai : Nat → Int → Int} {as : Nat → Int} (S : vSh h A g M n tb) (hn : n ≤ 4) (en : h.mX32_atomCount (A 0 0) = n) (hA : vRA ai h.mX82_predicate A at_ n) (ha : as (A 0 0) = 0) (hp : ∀ as', aB at_ (2 * n) (as' (A 0 0)) → K as') :
    ∃ fu, wVR_X32_run_28 K (A 0 0) h.kd h.an ai h.ar h.mX32_atoms h.mX32_atomCount h.mX82_places fu 0 as := by
  have l9 : h.an (A 9 0) = 4 := S.len 9 0 (by decide) (by decide) (by decide) z01
  refine wl2 (fun q x as => wVR_X32_run_28 K (A 0 0) h.kd h.an ai h.ar h.mX32_atoms h.mX32_atomCount h.mX82_places q x as) (fun x as => (0 ≤ x ∧ x ≤ n) ∧ aB at_ (2 * x) (as (A 0 0))) (fun x _ => ((n : Int) - x).toNat) ?_ 0 as ⟨by omega, by rw [ha]; decide, fun b hb => ⟨fun z => by rw [ha, zb_zero] at z; omega, fun ⟨i, x, y, _⟩ => by omega⟩⟩
  rintro x as ⟨hx, hb⟩ q ih
  rw [wVR_X32_run_28, en]
  refine ⟨fun z => ?_, fun z => ?_⟩
  · have : x = n := by omega
    subst this; exact hp as hb
  have hk : 0 ≤ x ∧ x < n := ⟨hx.1, by omega⟩
  have l11 : h.an (A 11 x) = 2 := S.len 11 x (by decide) (by decide) hk.1 hk.2
  have eat := S.atm x hk.1 hk.2
  refine kOn_of S.rt.2.2.1 ⟨S.kd 9 0 (by decide) (by decide) z01, by rw [l9]; omega, fun _ e1 => kOn_of (e1.trans eat.1) ⟨S.kd 10 x (by decide) hk.1 hk.2, fun _ e2 => ?_⟩⟩
  rw [eat.2] at e2
  subst e2
  refine kOn_some ⟨S.kd 11 x (by decide) hk.1 hk.2, by rw [l11]; decide, fun _ e3 => ?_⟩
  rw [l11] at e3
  subst e3
  exact CVR_run53 S hk hA hb (fun as' hb' => ⟨by omega, fun _ e4 => by subst e4; exact ih _ _ ⟨by omega, by rw [Int.mul_add]; exact hb'⟩ (by omega)⟩)
theorem CVR_run121 {K : (Nat → Int → Int) → Prop} {ai : Nat → Int → Int} (S : vSh h A g M n tb) (hp : ∀ f, (∀ v, 0 ≤ v → v < 6 → f v = -1) → K (va_up ai (A 21 0) f)) : ∃ fu, wVR_X32_run_121 K (A 0 0) h.kd h.an h.mX32_given fu 0 ai := by
  have l21 : h.an (A 21 0) = 6 := S.len 21 0 (by decide) (by decide) (by decide) z01
  refine wl2 (fun q x a => wVR_X32_run_121 K (A 0 0) h.kd h.an h.mX32_given q x a) (fun x a => (0 ≤ x ∧ x ≤ 6) ∧ ∃ f, a = va_up ai (A 21 0) f ∧ ∀ v, 0 ≤ v → v < x → f v = -1) (fun x _ => (6 - x).toNat) ?_ 0 ai ⟨by omega, ai (A 21 0), (va_up_id rfl).symm, fun v a b => by omega⟩
  rintro x a ⟨hx, f, ea, hf⟩ q ih
  rw [wVR_X32_run_121]
  refine ⟨fun z => ?_, fun z => kOn_of S.rw.2.2.1 ⟨S.kd 21 0 (by decide) (by decide) z01, by rw [l21]; omega, fun a' e1 => ⟨by omega, fun _ e2 => ?_⟩⟩⟩
  · rw [ea]; exact hp f (fun v u w => hf v u (by omega))
  · subst e2
    refine ih _ _ ⟨by omega, updI f x (-1), by rw [e1, ea, va_up_self, va_up_up], fun v u w => ?_⟩ (by omega)
    by_cases hv : v = x
    · rw [hv, updI_s]
    · rw [updI_n hv]; exact hf v u (by omega)
end

/-! VirtualRewrite (room VR): run -/
theorem vRn_big {c sz ky mp at_ sp : Int → Int} {sc : Int} {M n : Nat} {u : Nat} (hb : (vRn c sz ky mp at_ sp sc M n u).2.2.2.2.2 ≠ 0) : ∀ d : Nat, vRn c sz ky mp at_ sp sc M n (u + d) = vRn c sz ky mp at_ sp sc M n u
  | 0 => rfl
  | d + 1 => by
    have ih := vRn_big hb d
    rw [← Nat.add_assoc, vRn, ih, if_neg hb]
section
variable {h : HpVR} {A : Nat → Int → Nat} {g : Nat → Nat × Int} {tb c sz ky mp at_ sp : Int → Int} {sc : Int} {M n : Nat}
/-- all that run needs of the room's maps, but the answers -/
def vRq (h : HpVR) (A : Nat → Int → Nat) (g : Nat → Nat × Int) (tb c sz mp at_ sp : Int → Int) (sc : Int) (M n : Nat) : Prop := vSh h A g M n tb ∧ vOK c sz mp M ∧ (0 < n ∧ n ≤ 4) ∧ (0 ≤ sc ∧ sc ≤ 4) ∧ h.mX32_atomCount (A 0 0) = n ∧ h.mX32_spans (A 0 0) = sc ∧ vRZ h.mX33_size A sz
theorem vPl_lo {ai : Nat → Int → Int} {pr : Nat → Int} (hA : vRA ai pr A at_ n) {i : Int} (a : 0 ≤ i) (b : i < 2 * n) : -6 ≤ vPl at_ i := ((hA (i / 2) (by omega) (by omega)).2 (i % 2) (by omega) (by omega)).2
theorem vCg_of {ai : Nat → Int → Int} {as : Nat → Int} (H : vRq h A g tb c sz mp at_ sp sc M n) (hA : vRA ai h.mX82_predicate A at_ n) (has : aB at_ (2 * n) (as (A 0 0))) {u : Int} (h0 : 0 ≤ u) (h1 : u < vUc mp at_ M n) (h150 : vUc mp at_ M n ≤ 150) : vCg (h.s_mX32_asked as) A g tb c sz mp at_ sp (uTr mp at_ M n u) (uSl ky mp at_ M n u).1 sc M n u := by
  obtain ⟨S, hO, hn, hsc, en, es, hZ⟩ := H
  have htr := uTr_b (mp := mp) (at_ := at_) (M := M) (n := n) h0 h1 hn.1
  refine ⟨S, hO, ⟨hn.2, ⟨h0, by omega⟩, hsc⟩, fun k a b => ⟨htr k, ?_⟩, fun i a b => vPl_lo hA a b, fun i j x y x' y' e => ?_, ⟨en, es, hZ⟩, fun v a b hb i x y e => ?_⟩
  · have hb := vSl_b (vOne ky mp at_ (uTr mp at_ M n u)) n
    have := hb.2 k a b
    have h2 := hb.1
    exact ⟨this.1, Int.lt_of_lt_of_le this.2 (by omega)⟩
  · exact vSl_tab (T := fun k => mp (6 * uTr mp at_ M n u k)) (fun i j (ho : vOne ky mp at_ _ i j) => ho.1.symm) n i j x y x' y' e
  · have w := (has.2 v.toNat (by omega)).mpr ⟨i, x, y, by omega⟩
    unfold zb at w
    have hb : as (A 0 0) / 2 ^ v.toNat % 2 = 0 := hb
    omega
theorem CVR_run104 {K : (Nat → Int → Int) → (Nat → Int) → (Nat → Int) → Prop} {ai0 : Nat → Int → Int} {cn0 tm0 as uc sc' : Nat → Int} (H : vRq h A g tb c sz mp at_ sp sc M n) (hC : vRC ai0 A c) (hM : vRM ai0 h.mX81_predicate A tb mp M) (hA : vRA ai0 h.mX82_predicate A at_ n) (hS : vRS ai0 A sp sc) (has : aB at_ (2 * n) (as (A 0 0)))
    (eu : uc (A 0 0) = vUc mp at_ M n) (h150 : vUc mp at_ M n ≤ 150) (hU : vUsC ky mp at_ M n (M ^ n) ai0 sc' A) (e1 : cn0 (A 0 0) = 0) (e2 : tm0 (A 0 0) = 0)
    (hp : ∀ ai cn tm, vGr ai0 ai A (vN M n) → cAn ai cn tm A (vRn c sz ky mp at_ sp sc M n (vUc mp at_ M n)) → K ai cn tm) :
    ∃ fu, wVR_X32_run_104 K (A 0 0) h.kd h.an h.ar h.mX32_mappings h.mX32_atoms h.mX32_atomCount h.mX32_spanOf h.mX32_spanFrom h.mX32_spanTo h.mX32_spans h.mX32_unions uc h.mX32_given h.mX32_rowOf h.mX32_answers h.mX32_foundBy h.mX32_firstBy h.mX32_lastBy as h.mX33_cells h.mX33_size h.mX34_mappings h.mX34_slots h.mX81_table h.mX81_templates h.mX81_columns h.mX82_places fu 0 ai0 cn0 tm0 := by
  obtain ⟨S, hO, hn, hsc, en, es, hZ⟩ := id H
  refine wl4 (fun q x ai cn tm => wVR_X32_run_104 K (A 0 0) h.kd h.an h.ar h.mX32_mappings h.mX32_atoms h.mX32_atomCount h.mX32_spanOf h.mX32_spanFrom h.mX32_spanTo h.mX32_spans h.mX32_unions uc h.mX32_given h.mX32_rowOf h.mX32_answers h.mX32_foundBy h.mX32_firstBy h.mX32_lastBy as h.mX33_cells h.mX33_size h.mX34_mappings h.mX34_slots h.mX81_table h.mX81_templates h.mX81_columns h.mX82_places q x ai cn tm)
    (fun x ai cn tm => (0 ≤ x ∧ x ≤ vUc mp at_ M n) ∧ vGr ai0 ai A (vN M n) ∧ cAn ai cn tm A (vRn c sz ky mp at_ sp sc M n x.toNat) ∧ vNo (fun v => as (A 0 0) / 2 ^ v.toNat % 2 = 0) (vRn c sz ky mp at_ sp sc M n x.toNat)) (fun x _ _ _ => ((vUc mp at_ M n : Int) - x).toNat) ?_ 0 ai0 cn0 tm0
    ⟨by omega, fun i j _ _ _ _ _ _ _ _ => rfl, ⟨e1, e2, fun i a b => absurd b (by show ¬ i < 0; omega)⟩, fun v _ _ _ i a b => absurd b (by show ¬ i < 0; omega)⟩
  rintro x ai cn tm ⟨hx, hF, hAn, hN⟩ q ih
  have hSt := vRn_st (c := c) (sz := sz) (ky := ky) (mp := mp) (at_ := at_) (sp := sp) (sc := sc) (M := M) (n := n) x.toNat
  rw [wVR_X32_run_104, eu]
  refine ⟨fun z => ?_, fun z => ⟨fun z1 => ?_, fun z1 => ?_⟩⟩
  · have : x = vUc mp at_ M n := by omega
    subst this
    rw [Int.toNat_natCast] at hAn
    exact hp ai cn tm hF hAn
  · rw [hAn.2.1] at z1
    have X := vCg_of (ky := ky) H hA has hx.1 (by omega) h150
    refine CVR_run121 S (fun f hf => ?_)
    have hFf : vGr ai (va_up ai (A 21 0) f) A (vN M n) := fun i j a b w1 _ _ _ _ _ => S.up 21 i 0 j ⟨by decide, z01⟩ ⟨a, b⟩ (Or.inl (Ne.symm w1))
    have up : ∀ (i' : Nat), vN M n i' = 1 → 21 ≠ i' → va_up ai (A 21 0) f (A i' 0) = ai (A i' 0) := fun i' e' w => S.up 21 i' 0 0 ⟨by decide, z01⟩ ⟨by decide, by rw [e']; exact z01⟩ (Or.inl w)
    have D0 : vDt ai0 (h.s_mX32_asked as) A tb c mp at_ sp (uTr mp at_ M n x) (uSl ky mp at_ M n x).1 sc M n x := ⟨hC, hM, hA, hS, (hU.at hx.1 (by omega)).1⟩
    have goal := CVR_give X n 5 0 (fun _ => 0) (vRn c sz ky mp at_ sp sc M n x.toNat) (va_up ai (A 21 0) f) cn tm (fun ai' cn' tm' => zR (x + 1) ∧ ∀ y : Int, y = x + 1 → wVR_X32_run_104 K (A 0 0) h.kd h.an h.ar h.mX32_mappings h.mX32_atoms h.mX32_atomCount h.mX32_spanOf h.mX32_spanFrom h.mX32_spanTo h.mX32_spans h.mX32_unions uc h.mX32_given h.mX32_rowOf h.mX32_answers h.mX32_foundBy h.mX32_firstBy h.mX32_lastBy as h.mX33_cells h.mX33_size h.mX34_mappings h.mX34_slots h.mX81_table h.mX81_templates h.mX81_columns h.mX82_places q y ai' cn' tm')
      (by omega) (by omega) (Int.le_refl 0) ⟨vDt_c X.2.2.1.2.1 (hF.tr hFf) D0, fun j a b => by omega, fun v a b => ⟨fun i y w _ => by omega, fun _ => by rw [va_up_self]; exact hf v a b⟩, fun i a b => by omega, vSt_up hSt (by omega), hN, cAn_c hAn (up 23 rfl (by decide)) (up 24 rfl (by decide)) (up 25 rfl (by decide)) (up 26 rfl (by decide))⟩ (fun ai' cn' tm' hE => ⟨by omega, fun y ey => ?_⟩)
    · exact goal
    · subst ey
      have enx : (x + 1).toNat = x.toNat + 1 := by omega
      have exx : ((x.toNat : Nat) : Int) = x := by omega
      have er : vRn c sz ky mp at_ sp sc M n (x + 1).toNat = vLkU c sz mp at_ sp (uTr mp at_ M n x) sc n (uSl ky mp at_ M n x).1 x n (fun _ => 0) (vRn c sz ky mp at_ sp sc M n x.toNat) := by
        rw [enx, vRn, if_pos z1, exx]
      refine ih _ _ _ _ ⟨by omega, hF.tr (hFf.tr hE.1), by rw [er]; exact hE.2.2.2, ?_⟩ (by omega)
      rw [er]
      exact vLk_no hx.1 (fun R v a b w => vVec_no X a b w) n _ _ (vSt_up hSt (by omega)) hN
  · rw [hAn.2.1] at z1
    have := vRn_big z1 (vUc mp at_ M n - x.toNat)
    rw [show x.toNat + (vUc mp at_ M n - x.toNat) = vUc mp at_ M n by omega] at this
    exact hp ai cn tm hF (by rw [this]; exact hAn)
/-- what the room keeps of a run -/
def cKa (cn : Int) (sv : Int → Int → Int) (sf s1 : Int → Int) (ask : Int → Prop) (ai : Nat → Int → Int) (ac as : Nat → Int) (A : Nat → Int → Nat) : Prop :=
  ac (A 0 0) = cn ∧ (0 ≤ cn ∧ cn ≤ 300) ∧ (∀ i, 0 ≤ i → i < cn → (∀ v, 0 ≤ v → v < 6 → ai (A 23 0) (6 * i + v) = sv i v) ∧ ai (A 24 0) i = sf i ∧ ai (A 25 0) i = s1 i) ∧ (0 < cn → zR (as (A 0 0)) ∧ ∀ v, 0 ≤ v → v < 6 → (as (A 0 0) / 2 ^ v.toNat % 2 = 1 ↔ ask v))
/-- what run leaves as it was -/
def vFq (ai ai' : Nat → Int → Int) (A : Nat → Int → Nat) (N : Nat → Int) : Prop := ∀ i j, 0 ≤ j → j < N i → (i ≤ 16) → ai' (A i j) = ai (A i j)
theorem CVR_run {post : Int → (Nat → Int → Int) → (Nat → Int) → (Nat → Int) → (Nat → Int) → (Nat → Int) → (Nat → Int) → (Nat → Int) → (Nat → Int) → Prop} (H : vAll h A g tb c sz ky mp at_ M n) (hC : vRC h.ai A c) (hZ : vRZ h.mX33_size A sz) (hS : vRS h.ai A sp sc) (hsc : 0 ≤ sc ∧ sc ≤ 4) (es : h.mX32_spans (A 0 0) = sc)
    (hp : ∀ ai uc lg kn cn as tm sc', vFq h.ai ai A (vN M n) → (¬ kn (A 0 0) = 0 → vRs ky mp at_ M n (M ^ n) ai uc lg sc' A) → cKa (vKept c sz ky mp at_ sp sc M n) (vRn c sz ky mp at_ sp sc M n (vUc mp at_ M n)).2.1 (vRn c sz ky mp at_ sp sc M n (vUc mp at_ M n)).2.2.1 (vRn c sz ky mp at_ sp sc M n (vUc mp at_ M n)).2.2.2.1 (vAsk at_ n) ai cn as A → post (vRun c sz ky mp at_ sp sc M n) ai uc lg kn cn as tm sc') : uVR_X32_run post h (A 0 0) := by
  obtain ⟨⟨hn4, hM12⟩, S, hO, hK, hM, hA, en, em, hk⟩ := id H
  unfold uVR_X32_run wpVR_X32_run
  intro cn1 ec1 as1 ea1 tm1 et1
  refine CVR_readyR H (fun e ai uc lg kn sc' F R => ⟨fun z => by omega, fun _ => ?_⟩) (fun e e1 e2 ai uc lg kn sc' F R eu hU => ⟨fun _ => ?_, fun z => absurd (by decide) z⟩)
  · have er : vRun c sz ky mp at_ sp sc M n = vRdy mp at_ M n := by unfold vRun; rw [if_pos e]
    have ek : vKept c sz ky mp at_ sp sc M n = 0 := by unfold vKept; rw [er, if_pos e]
    rw [er, ek] at hp
    refine hp ai uc lg kn cn1 as1 tm1 sc' (fun i j a b w => F i j a b (by omega) (by omega) (by omega) (by omega)) R ⟨by rw [ec1, va_up_self], by omega, fun i a b => by omega, fun z => by omega⟩
  · have N1 : ∀ i, vN M n i = 1 → 0 < vN M n i := fun i w => by rw [w]; exact z01
    have hA' : vRA ai h.mX82_predicate A at_ n := fun k a b => ⟨(hA k a b).1, fun p x y => by rw [F 11 k a (by simpa [vN] using b) (by decide) (by decide) (by decide) (by decide)]; exact (hA k a b).2 p x y⟩
    have hC' : vRC ai A c := fun t j a b d f => by rw [F 2 t a (by simpa [vN] using b) (by decide) (by decide) (by decide) (by decide)]; exact hC t j a b d f
    have hM' : vRM ai h.mX81_predicate A tb mp M := fun m a b => ⟨(hM m a b).1, (hM m a b).2.1, fun p x y => by rw [F 7 m a (by simpa [vN] using b) (by decide) (by decide) (by decide) (by decide), F 8 m a (by simpa [vN] using b) (by decide) (by decide) (by decide) (by decide)]; exact (hM m a b).2.2 p x y⟩
    have hS' : vRS ai A sp sc := fun k a b => by rw [F 12 0 (by decide) z01 (by decide) (by decide) (by decide) (by decide), F 13 0 (by decide) z01 (by decide) (by decide) (by decide) (by decide), F 14 0 (by decide) z01 (by decide) (by decide) (by decide) (by decide)]; exact hS k a b
    refine CVR_run28 S hn4 en hA' (by rw [ea1, va_up_self]) (fun as has => ?_)
    refine CVR_run104 (sc' := sc') ⟨S, hO, ⟨e1, hn4⟩, hsc, en, es, hZ⟩ hC' hM' hA' hS' has eu e2 hU (by rw [ec1, va_up_self]) (by rw [et1, va_up_self]) (fun ai2 cn tm F2 hAn => ?_)
    have F3 : vFq h.ai ai2 A (vN M n) := fun i j a b w => by rw [F2 i j a b (by omega) (by omega) (by omega) (by omega) (by omega) (by omega), F i j a b (by omega) (by omega) (by omega) (by omega)]
    have R2 : ¬ kn (A 0 0) = 0 → vRs ky mp at_ M n (M ^ n) ai2 uc lg sc' A := by
      intro w
      rcases R w with ⟨q1, q2, q3, q4⟩ | q
      · refine Or.inl ⟨q1, q2, q3, fun u hu => ?_⟩
        have hu2 : (u : Int) < 150 := by omega
        rw [F2 17 u (by omega) (by simpa [vN] using hu2) (by decide) (by decide) (by decide) (by decide) (by decide) (by decide), F2 18 u (by omega) (by simpa [vN] using hu2) (by decide) (by decide) (by decide) (by decide) (by decide) (by decide)]
        exact q4 u hu
      · exact Or.inr q
    obtain ⟨a1, a2, a3⟩ := hAn
    have hst := vRn_st (c := c) (sz := sz) (ky := ky) (mp := mp) (at_ := at_) (sp := sp) (sc := sc) (M := M) (n := n) (vUc mp at_ M n)
    have ask : zR (as (A 0 0)) ∧ ∀ v, 0 ≤ v → v < 6 → (as (A 0 0) / 2 ^ v.toNat % 2 = 1 ↔ vAsk at_ n v) := ⟨has.1, fun v x y => by
      have w := has.2 v.toNat (by omega)
      unfold zb at w
      rw [w]
      constructor
      · rintro ⟨i, p, q, r⟩
        exact ⟨i, ⟨p, q⟩, by omega⟩
      · rintro ⟨i, ⟨p, q⟩, r⟩
        exact ⟨i, p, q, by omega⟩⟩
    unfold wVR_X32_run_152
    rw [a2]
    have nr : ¬ vRdy mp at_ M n < 0 := by omega
    by_cases hb : (vRn c sz ky mp at_ sp sc M n (vUc mp at_ M n)).2.2.2.2.2 = 0
    · have er : vRun c sz ky mp at_ sp sc M n = (vRn c sz ky mp at_ sp sc M n (vUc mp at_ M n)).1 := by unfold vRun; rw [if_neg nr, if_pos hb]
      have ek : vKept c sz ky mp at_ sp sc M n = (vRn c sz ky mp at_ sp sc M n (vUc mp at_ M n)).1 := by unfold vKept; rw [er, if_neg (by have := hst.1; omega)]
      rw [er, ek] at hp
      refine ⟨fun _ => ⟨fun _ => ?_, fun z => absurd hb z⟩, fun z => absurd hb z⟩
      rw [a1]
      exact hp ai2 uc lg kn cn as tm sc' F3 R2 ⟨a1, hst.1, fun i x y => ⟨(a3 i x y).1, (a3 i x y).2.1, (a3 i x y).2.2.1⟩, fun _ => ask⟩
    · have er : vRun c sz ky mp at_ sp sc M n = -3 := by unfold vRun; rw [if_neg nr, if_neg hb]
      have ek : vKept c sz ky mp at_ sp sc M n = 0 := by unfold vKept; rw [er]; rfl
      rw [er, ek] at hp
      refine ⟨fun z => absurd z hb, fun _ cn2 e3 => ⟨fun z => absurd z hb, fun _ => ?_⟩⟩
      exact hp ai2 uc lg kn cn2 as tm sc' F3 R2 ⟨by rw [e3, va_up_self], by omega, fun i x y => by omega, fun z => by omega⟩
theorem CVR_found {post : Int → Prop} {cn : Int} {sv : Int → Int → Int} {sf s1 : Int → Int} {ask : Int → Prop} {i w : Int} (S : vSh h A g M n tb) (H : cKa cn sv sf s1 ask h.ai h.mX32_answerCount h.mX32_asked A) (hp : post (vFnd cn sf s1 i w)) : uVR_X32_found post h (A 0 0) i w := by
  unfold uVR_X32_found wpVR_X32_found
  have l24 : h.an (A 24 0) = 300 := S.len 24 0 (by decide) (by decide) (by decide) z01
  have l25 : h.an (A 25 0) = 300 := S.len 25 0 (by decide) (by decide) (by decide) z01
  rw [H.1]
  unfold vFnd at hp
  refine CVR_isInB (fun a b => CVR_isInB (fun a2 b2 => ?_) (fun z => ?_)) (fun z => ?_)
  · rw [if_pos ⟨⟨a, b⟩, a2, b2⟩] at hp
    have R := H.2.2.1 i a b
    have hb := H.2.1
    refine ⟨fun z => kOn_of S.ra.2.1 ⟨S.kd 24 0 (by decide) (by decide) z01, by rw [l24]; omega, ?_⟩, fun z => kOn_of S.ra.2.2.1 ⟨S.kd 25 0 (by decide) (by decide) z01, by rw [l25]; omega, ?_⟩⟩
    · rw [if_pos z] at hp; rw [R.2.1]; exact hp
    · rw [if_neg z] at hp; rw [R.2.2]; exact hp
  · rw [if_neg (fun y => z y.2)] at hp; exact hp
  · rw [if_neg (fun y => z y.1)] at hp; exact hp
end

/-! VirtualRewrite (room VR): value -/
section
variable {A : Nat → Int → Nat} {g : Nat → Nat × Int} {tb : Int → Int} {M n : Nat} {h : HpVR}
theorem CVR_value {MC MS : Nat} {post : Int → Prop} {px : Nat → Prop} {cn : Int} {sv : Int → Int → Int} {sf s1 : Int → Int} {ask : Int → Prop} {i v : Int} (hM : 1 ≤ MC ∧ 6 ≤ MS) (S : vSh h A g M n tb) (H : cKa cn sv sf s1 ask h.ai h.mX32_answerCount h.mX32_asked A) (h1 : vValT cn ask i v → px 2) (h0 : ¬ vValT cn ask i v → post (vVal cn sv i v)) : uVR_X32_value MC MS post px h (A 0 0) i v := by
  unfold uVR_X32_value wpVR_X32_value
  have l23 : h.an (A 23 0) = 1800 := S.len 23 0 (by decide) (by decide) (by decide) z01
  rw [H.1]
  have no : ¬ ((0 ≤ i ∧ i < cn) ∧ (0 ≤ v ∧ v < 6)) → 0 ≤ MC ∧ 0 ≤ MS ∧ post (-1) := fun w => by
    have := h0 (fun q => w q.1)
    unfold vVal at this
    rw [if_neg w] at this
    exact ⟨by omega, by omega, this⟩
  refine ⟨by omega, CVR_isInB (fun a b => ⟨by omega, CVR_isInB (fun a2 b2 => ?_) (fun z => no (fun y => z y.2))⟩) (fun z => no (fun y => z y.1))⟩
  have R := (H.2.2.1 i a b).1 v a2 b2
  have hb := H.2.1
  have K := (H.2.2.2 (by omega)).2 v a2 b2
  refine ⟨by omega, fun z => ?_, fun z => kOn_of S.ra.1 ⟨S.kd 23 0 (by decide) (by decide) z01, by rw [l23]; omega, by omega, by omega, by omega, ?_⟩⟩
  · exact ⟨by omega, by omega, h1 ⟨⟨⟨a, b⟩, a2, b2⟩, fun w => by have := K.mpr w; omega⟩⟩
  · have kk : ask v := K.mp (by omega)
    have := h0 (fun q => q.2 kk)
    unfold vVal at this
    rw [if_pos ⟨⟨a, b⟩, a2, b2⟩] at this
    rw [R]
    exact this
end
