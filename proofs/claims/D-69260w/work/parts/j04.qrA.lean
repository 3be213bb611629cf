/-! QlRewrite, the reference (X56): what is thinned -/
def qTm (fr to : Int → Int) (v : Int) : Nat → Int
  | 0 => 0
  | k + 1 => qTm fr to v k + (if fr k = v then 1 else 0) + (if to k = v then 1 else 0)
def qAt (nm fr to : Int → Int) (n : Int) (t : qA) : Prop := ∃ k, (0 ≤ k ∧ k < n) ∧ t = (nm k, fr k, to k)
/-- atoms that come of T0 by freeing -/
def qS0 (a b : Int) (T0 : qA → Prop) (nm fr to : Int → Int) (n : Int) : Prop := (0 ≤ n ∧ n ≤ 4) ∧ ∃ k V, qRe a b T0 k V ∧ ∀ t, qAt nm fr to n t ↔ qIm V T0 t
def qFr (v : Int) (t : qA) : qA := (t.1, (if t.2.1 = v then 6 else t.2.1), (if t.2.2 = v then 6 else t.2.2))
/-- how much there is -/
noncomputable def qMs (fr to : Int → Int) (n : Int) : Int := n + cntI (fun k => ¬ fr k = 6) n.toNat + cntI (fun k => ¬ to k = 6) n.toNat
def qNl (a b : Int) (fr to : Int → Int) (n k : Int) : Prop := (qOt a b (fr k) → ¬ qTm fr to (fr k) n.toNat = 1) ∧ (qOt a b (to k) → ¬ qTm fr to (to k) n.toNat = 1)
section
variable {nm fr to fr' to' : Int → Int} {a b n v k x y : Int} {T0 : qA → Prop} {t : qA} {V W : Int → Prop} {post : Int → Prop} {A B : Prop}
theorem qTm_b : ∀ m : Nat, 0 ≤ qTm fr to v m ∧ qTm fr to v m ≤ 2 * m
  | 0 => by unfold qTm; decide
  | m + 1 => by
    have ih := qTm_b m
    rw [qTm]
    have e1 : 0 ≤ (if fr m = v then (1 : Int) else 0) ∧ (if fr m = v then (1 : Int) else 0) ≤ 1 := by split <;> decide
    have e2 : 0 ≤ (if to m = v then (1 : Int) else 0) ∧ (if to m = v then (1 : Int) else 0) ≤ 1 := by split <;> decide
    omega
theorem qTm_0 : ∀ m : Nat, qTm fr to v m = 0 ↔ ∀ j : Int, 0 ≤ j → j < m → ¬ fr j = v ∧ ¬ to j = v
  | 0 => ⟨fun _ j j0 j1 => by omega, fun _ => rfl⟩
  | m + 1 => by
    have ih := qTm_0 m
    have b := (qTm_b (fr := fr) (to := to) (v := v) m).1
    rw [qTm]
    constructor
    · intro h j j0 j1
      have e1 : ¬ fr m = v := fun z => by
        rw [if_pos z] at h
        have : 0 ≤ (if to m = v then (1 : Int) else 0) := by split <;> decide
        omega
      rw [if_neg e1] at h
      have e2 : ¬ to m = v := fun z => by
        rw [if_pos z] at h
        omega
      rw [if_neg e2] at h
      by_cases z : j = m
      · rw [z]; exact ⟨e1, e2⟩
      · exact ih.1 (by omega) j j0 (by omega)
    · intro h
      have h1 := h m (by omega) (by omega)
      rw [ih.2 (fun j j0 j1 => h j j0 (by omega)), if_neg h1.1, if_neg h1.2]
      decide
theorem qTm_u : ∀ m : Nat, 0 ≤ k → k < m → qTm (updI fr k x) (updI to k y) v m = qTm fr to v m - (if fr k = v then 1 else 0) - (if to k = v then 1 else 0) + (if x = v then 1 else 0) + (if y = v then 1 else 0)
  | 0, h0, h1 => by omega
  | m + 1, h0, h1 => by
    rw [qTm, qTm]
    by_cases z : (m : Int) = k
    · have e : ∀ j : Nat, (j : Int) ≤ k → qTm (updI fr k x) (updI to k y) v j = qTm fr to v j := fun j => by
        induction j with
        | zero => intro _; rfl
        | succ j ih =>
          intro hj
          rw [qTm, qTm, ih (by omega), updI_n (by omega), updI_n (by omega)]
      rw [e m (by omega), z, updI_s, updI_s]
      omega
    · rw [qTm_u m h0 (by omega), updI_n z, updI_n z]
      omega
/-- what stands once, by numbers -/
theorem qTm_1 (hk : 0 ≤ k ∧ k < n) (h6 : ¬ v = 6) (hv : fr k = v ∨ to k = v) : qTm fr to v n.toNat = 1 ↔ (((fr k = v ∧ ¬ to k = v) ∨ (¬ fr k = v ∧ to k = v)) ∧ ∀ j, 0 ≤ j → j < n → ¬ j = k → ¬ fr j = v ∧ ¬ to j = v) := by
  have u := qTm_u (fr := fr) (to := to) (v := v) (x := 6) (y := 6) n.toNat hk.1 (by omega)
  have h6' : ¬ (6 : Int) = v := fun e => h6 e.symm
  rw [if_neg h6'] at u
  have z := qTm_0 (fr := updI fr k 6) (to := updI to k 6) (v := v) n.toNat
  have b := (qTm_b (fr := updI fr k 6) (to := updI to k 6) (v := v) n.toNat).1
  have z' : qTm (updI fr k 6) (updI to k 6) v n.toNat = 0 ↔ ∀ j, 0 ≤ j → j < n → ¬ j = k → ¬ fr j = v ∧ ¬ to j = v := by
    rw [z]
    constructor
    · intro h j j0 j1 ne
      have := h j j0 (by omega)
      rw [updI_n ne, updI_n ne] at this
      exact this
    · intro h j j0 j1
      by_cases ne : j = k
      · rw [ne, updI_s, updI_s]; exact ⟨h6', h6'⟩
      · rw [updI_n ne, updI_n ne]; exact h j j0 (by omega) ne
  rw [← z']
  by_cases p : fr k = v
  · rw [if_pos p] at u
    by_cases q : to k = v
    · rw [if_pos q] at u
      exact ⟨fun h => by omega, fun h => by
        rcases h.1 with w | w
        · exact absurd q w.2
        · exact absurd p w.1⟩
    · rw [if_neg q] at u
      exact ⟨fun h => ⟨Or.inl ⟨p, q⟩, by omega⟩, fun h => by have := h.2; omega⟩
  · have q := hv.resolve_left p
    rw [if_neg p, if_pos q] at u
    exact ⟨fun h => ⟨Or.inr ⟨p, q⟩, by omega⟩, fun h => by have := h.2; omega⟩
theorem T56_times (hn : 0 ≤ n ∧ n ≤ 4) (hp : post (qTm fr to v n.toNat)) : wpX56_times post fr to n v := by
  unfold wpX56_times
  refine wl2 (fun fu m k => wX56_times_4 (fun (x2_24 : Int) => post x2_24) v fr to n fu m k) (fun m k => (0 ≤ k ∧ k ≤ n) ∧ m = qTm fr to v k.toNat) (fun _ k => (n - k).toNat) ?_ 0 0 ⟨by omega, rfl⟩
  rintro m k ⟨hk, rfl⟩ f ih
  rw [wX56_times_4]
  refine ⟨fun z => by rw [show k.toNat = n.toNat by omega]; exact hp, fun z => ⟨by omega, ?_⟩⟩
  have tb := qTm_b (fr := fr) (to := to) (v := v) k.toNat
  have ek : ((k.toNat : Nat) : Int) = k := by omega
  have e : qTm fr to v (k + 1).toNat = qTm fr to v k.toNat + (if fr k = v then 1 else 0) + (if to k = v then 1 else 0) := by
    rw [show (k + 1).toNat = k.toNat + 1 by omega, qTm, ek]
  unfold wX56_times_28
  refine ⟨fun p => ⟨by omega, fun _ e1 => ⟨by omega, fun q => ⟨by omega, fun _ e2 => ⟨by omega, fun _ e3 => ?_⟩⟩, fun q => ⟨by omega, fun _ e2 => ⟨by omega, fun _ e3 => ?_⟩⟩⟩⟩, fun p => ⟨by omega, fun _ e1 => ⟨by omega, fun q => ⟨by omega, fun _ e2 => ⟨by omega, fun _ e3 => ?_⟩⟩, fun q => ⟨by omega, fun _ e2 => ⟨by omega, fun _ e3 => ?_⟩⟩⟩⟩⟩
  · rw [e3, e2, e1]
    rw [if_pos p, if_pos q] at e
    exact ih _ _ ⟨by omega, by omega⟩ (by omega)
  · rw [e3, e2, e1]
    rw [if_pos p, if_neg q] at e
    exact ih _ _ ⟨by omega, by omega⟩ (by omega)
  · rw [e3, e2, e1]
    rw [if_neg p, if_pos q] at e
    exact ih _ _ ⟨by omega, by omega⟩ (by omega)
  · rw [e3, e2, e1]
    rw [if_neg p, if_neg q] at e
    exact ih _ _ ⟨by omega, by omega⟩ (by omega)
theorem T56_isOtherB (h1 : qOt a b v → B) (h0 : ¬ qOt a b v → A) : wpX56_isOther (fun r => (r = 0 → A) ∧ (¬ r = 0 → B)) a b v := by
  unfold wpX56_isOther
  have no : ¬ qOt a b v → ((0 : Int) = 0 → A) ∧ (¬ (0 : Int) = 0 → B) := fun h => ⟨fun _ => h0 h, fun z => absurd rfl z⟩
  exact ⟨fun z => no (fun h => h.1 z), fun z6 => ⟨fun z => no (fun h => h.2.1 z), fun z7 => ⟨fun z => no (fun h => h.2.2.1 z), fun za => ⟨fun z => no (fun h => h.2.2.2 z), fun zb => ⟨fun z => absurd z (by decide), fun _ => h1 ⟨z6, z7, za, zb⟩⟩⟩⟩⟩⟩
/-- freeing, by atoms -/
theorem qSt_a (h6 : ¬ v = 6) (hV : ∀ w, W w ↔ V w ∨ w = v) : qSt W t = qFr v (qSt V t) := by
  have one : ∀ x, qSu W x = if qSu V x = v then 6 else qSu V x := fun x => by
    by_cases z : V x
    · rw [qSu_t ((hV x).2 (Or.inl z)), qSu_t z, if_neg (fun e => h6 e.symm)]
    · rw [qSu_f z]
      by_cases y : x = v
      · rw [if_pos y, qSu_t ((hV x).2 (Or.inr y))]
      · rw [if_neg y, qSu_f (fun w => ((hV x).1 w).elim z y)]
  unfold qSt qFr
  dsimp only
  rw [one, one]
theorem qS0.free (S : qS0 a b T0 nm fr to n) (ho : qOt a b v) (hk : 0 ≤ k ∧ k < n) (h1 : qOne (nm k, fr k, to k) v) (h2 : ∀ j, 0 ≤ j → j < n → ¬ j = k → ¬ fr j = v ∧ ¬ to j = v) (he : ∀ j, 0 ≤ j → j < n → (nm j, fr' j, to' j) = qFr v (nm j, fr j, to j)) : qS0 a b T0 nm fr' to' n := by
  obtain ⟨hn, m, V, S1, S2⟩ := S
  have eT : qAt nm fr to n = qIm V T0 := funext fun t => propext (S2 t)
  refine ⟨hn, m + 1, (fun w => V w ∨ w = v), ⟨V, v, S1, ⟨ho, (nm k, fr k, to k), ?_, h1, ?_⟩, fun _ => Iff.rfl⟩, fun t => ?_⟩
  · rw [← eT]; exact ⟨k, hk, rfl⟩
  · rw [← eT]
    rintro t' ⟨j, hj, rfl⟩ hh
    by_cases z : j = k
    · rw [z]
    · have := h2 j hj.1 hj.2 z
      rcases hh with hh | hh
      · exact absurd hh this.1
      · exact absurd hh this.2
  · constructor
    · rintro ⟨j, hj, rfl⟩
      obtain ⟨s, hs, es⟩ := (S2 (nm j, fr j, to j)).1 ⟨j, hj, rfl⟩
      refine ⟨s, hs, ?_⟩
      rw [he j hj.1 hj.2, es, ← qSt_a ho.1 (fun w => Iff.rfl)]
    · rintro ⟨s, hs, rfl⟩
      obtain ⟨j, hj, ej⟩ := (S2 (qSt V s)).2 ⟨s, hs, rfl⟩
      refine ⟨j, hj, ?_⟩
      rw [he j hj.1 hj.2, ← ej, ← qSt_a ho.1 (fun w => Iff.rfl)]
theorem qS0.freeF (S : qS0 a b T0 nm fr to n) (ho : qOt a b (fr k)) (hk : 0 ≤ k ∧ k < n) (h : qTm fr to (fr k) n.toNat = 1) : qS0 a b T0 nm (updI fr k 6) to n := by
  obtain ⟨h1, h2⟩ := (qTm_1 hk ho.1 (Or.inl rfl)).1 h
  have nk : ¬ to k = fr k := by
    rcases h1 with h1 | h1
    · exact h1.2
    · exact absurd rfl h1.1
  refine S.free ho hk (Or.inl ⟨rfl, nk⟩) h2 (fun j j0 j1 => ?_)
  unfold qFr
  dsimp only
  rw [updI_e]
  by_cases z : j = k
  · rw [if_pos z, z, if_pos rfl, if_neg nk]
  · have := h2 j j0 j1 z
    rw [if_neg z, if_neg this.1, if_neg this.2]
theorem qS0.freeT (S : qS0 a b T0 nm fr to n) (ho : qOt a b (to k)) (hk : 0 ≤ k ∧ k < n) (h : qTm fr to (to k) n.toNat = 1) : qS0 a b T0 nm fr (updI to k 6) n := by
  obtain ⟨h1, h2⟩ := (qTm_1 hk ho.1 (Or.inr rfl)).1 h
  have nk : ¬ fr k = to k := by
    rcases h1 with h1 | h1
    · exact absurd rfl h1.2
    · exact h1.1
  refine S.free ho hk (Or.inr ⟨nk, rfl⟩) h2 (fun j j0 j1 => ?_)
  unfold qFr
  dsimp only
  rw [updI_e]
  by_cases z : j = k
  · rw [if_pos z, z, if_neg nk, if_pos rfl]
  · have := h2 j j0 j1 z
    rw [if_neg z, if_neg this.1, if_neg this.2]
theorem qCn_u {f : Int → Int} (hk : 0 ≤ k ∧ k < n) (h : ¬ f k = 6) : cntI (fun j => ¬ f j = 6) n.toNat = cntI (fun j => ¬ updI f k 6 j = 6) n.toNat + 1 := by
  have e := cntI_u1 (p := fun j => ¬ updI f k 6 j = 6) (q := fun j => ¬ f j = 6) (x0 := k) hk.1 (by
    show ¬ ¬ updI f k 6 k = 6
    rw [updI_s]; exact fun z => z rfl) h (fun j hj => by
    show ¬ updI f k 6 j = 6 ↔ ¬ f j = 6
    rw [updI_n hj]) n.toNat
  rw [e, if_pos (by omega)]
theorem qMs_F (hk : 0 ≤ k ∧ k < n) (h : ¬ fr k = 6) : qMs (updI fr k 6) to n = qMs fr to n - 1 := by
  unfold qMs
  rw [qCn_u (f := fr) hk h]; omega
theorem qMs_T (hk : 0 ≤ k ∧ k < n) (h : ¬ to k = 6) : qMs fr (updI to k 6) n = qMs fr to n - 1 := by
  unfold qMs
  rw [qCn_u (f := to) hk h]; omega
theorem qMs_b (hn : 0 ≤ n) : 0 ≤ qMs fr to n := by
  unfold qMs
  have a1 := (cntI_b (fun k => ¬ fr k = 6) n.toNat).1
  have a2 := (cntI_b (fun k => ¬ to k = 6) n.toNat).1
  omega
/-- an atom goes, the last one stands in its place -/
theorem qCn_g {f : Int → Int} (hk : 0 ≤ k ∧ k < n) : cntI (fun j => ¬ updI f k (f (n - 1)) j = 6) (n - 1).toNat ≤ cntI (fun j => ¬ f j = 6) n.toNat := by
  have e : n.toNat = (n - 1).toNat + 1 := by omega
  have en : (((n - 1).toNat : Nat) : Int) = n - 1 := by omega
  by_cases z : k = n - 1
  · have c : cntI (fun j => ¬ updI f k (f (n - 1)) j = 6) (n - 1).toNat = cntI (fun j => ¬ f j = 6) (n - 1).toNat := cntI_c (fun i i0 i1 => by rw [updI_n (by omega)])
    rw [c, e]
    show _ ≤ cntI (fun j => ¬ f j = 6) (n - 1).toNat + pif _ 1 0
    by_cases y : ¬ f (((n - 1).toNat : Nat) : Int) = 6
    · rw [pif_t y]; omega
    · rw [pif_f y]; omega
  · rw [e]
    show _ ≤ cntI (fun j => ¬ f j = 6) (n - 1).toNat + pif (¬ f (((n - 1).toNat : Nat) : Int) = 6) 1 0
    rw [en]
    have up : ∀ v, cntI (fun j => ¬ updI f k v j = 6) (n - 1).toNat ≤ cntI (fun j => ¬ updI f k 6 j = 6) (n - 1).toNat + if v = 6 then 0 else 1 := fun v => by
      by_cases y : v = 6
      · rw [if_pos y, y]; omega
      · have c := qCn_u (f := updI f k v) (n := n - 1) (k := k) ⟨hk.1, by omega⟩ (by rw [updI_s]; exact y)
        have e2 : updI (updI f k v) k 6 = updI f k 6 := funext fun j => by
          rw [updI_e, updI_e, updI_e]
          split <;> rfl
        rw [e2] at c
        rw [if_neg y, c]; omega
    have lo : cntI (fun j => ¬ updI f k 6 j = 6) (n - 1).toNat ≤ cntI (fun j => ¬ f j = 6) (n - 1).toNat := by
      by_cases y : f k = 6
      · have e2 : updI f k 6 = f := funext fun j => by
          rw [updI_e]
          by_cases q : j = k
          · rw [if_pos q, q, y]
          · rw [if_neg q]
        rw [e2]; omega
      · have c := qCn_u (f := f) (n := n - 1) (k := k) ⟨hk.1, by omega⟩ y
        omega
    have u := up (f (n - 1))
    by_cases y : f (n - 1) = 6
    · rw [if_pos y] at u
      rw [pif_f (fun w => w y)]; omega
    · rw [if_neg y] at u
      rw [pif_t y]; omega
theorem qMs_g (hk : 0 ≤ k ∧ k < n) : qMs (updI fr k (fr (n - 1))) (updI to k (to (n - 1))) (n - 1) < qMs fr to n := by
  unfold qMs
  have a1 := qCn_g (f := fr) hk
  have a2 := qCn_g (f := to) hk
  omega
theorem qS0.goes {j : Int} (S : qS0 a b T0 nm fr to n) (hk : k < n) (hj : 0 ≤ j ∧ j < k) (e : (nm j, fr j, to j) = (nm k, fr k, to k)) : qS0 a b T0 (updI nm k (nm (n - 1))) (updI fr k (fr (n - 1))) (updI to k (to (n - 1))) (n - 1) := by
  obtain ⟨hn, m, V, S1, S2⟩ := S
  refine ⟨by omega, m, V, S1, fun t => ?_⟩
  rw [← S2]
  constructor
  · rintro ⟨i, hi, rfl⟩
    by_cases z : i = k
    · exact ⟨n - 1, by omega, by rw [z, updI_s, updI_s, updI_s]⟩
    · exact ⟨i, by omega, by rw [updI_n z, updI_n z, updI_n z]⟩
  · rintro ⟨i, hi, rfl⟩
    by_cases z : i = k
    · refine ⟨j, by omega, ?_⟩
      rw [updI_n (by omega), updI_n (by omega), updI_n (by omega), e, z]
    · by_cases y : i = n - 1
      · refine ⟨k, by omega, ?_⟩
        rw [updI_s, updI_s, updI_s, y]
      · refine ⟨i, by omega, ?_⟩
        rw [updI_n z, updI_n z, updI_n z]
theorem T56_goes {post : Int → (Int → Int) → (Int → Int) → (Int → Int) → Int → Prop} (hn : n ≤ 4) (hk : 0 ≤ k ∧ k < n) (h0 : (∀ j, 0 ≤ j → j < k → ¬ (nm j, fr j, to j) = (nm k, fr k, to k)) → post 0 nm fr to n)
  (h1 : ∀ j, (0 ≤ j ∧ j < k) → (nm j, fr j, to j) = (nm k, fr k, to k) → post 1 (updI nm k (nm (n - 1))) (updI fr k (fr (n - 1))) (updI to k (to (n - 1))) (n - 1)) : wpX56_goes post nm fr to n k := by
  unfold wpX56_goes
  refine wloop (fun fu j => wX56_goes_2 _ _ k nm fr to fu j) (fun j => (0 ≤ j ∧ j ≤ k) ∧ ∀ i, 0 ≤ i → i < j → ¬ (nm i, fr i, to i) = (nm k, fr k, to k)) (fun j => (k - j).toNat) ?_ 0 ⟨by omega, fun i i0 i1 => by omega⟩
  rintro j ⟨hj, hno⟩ f ih
  rw [wX56_goes_2]
  have nxt : ¬ k ≤ j → ¬ (nm j, fr j, to j) = (nm k, fr k, to k) → ∀ j' : Int, j' = j + 1 → wX56_goes_2 _ _ k nm fr to f j' := fun z ne j' ej => by
    rw [ej]
    refine ih _ ⟨by omega, fun i i0 i1 => ?_⟩ (by omega)
    by_cases y : i = j
    · rw [y]; exact ne
    · exact hno i i0 (by omega)
  refine ⟨fun z => h0 (fun i i0 i1 => hno i i0 (by omega)), fun z => ⟨by omega, by omega, fun e1 => ⟨fun e2 => ⟨fun e3 => ⟨by omega, fun m em => ⟨by omega, fun _ q1 => ⟨by omega, fun _ q2 _ q3 _ q4 _ q5 _ q6 => ?_⟩⟩⟩, fun e3 => ⟨by omega, nxt z (fun w => e3 (congrArg (fun t : qA => t.2.2) w))⟩⟩, fun e2 => ⟨by omega, nxt z (fun w => e2 (congrArg (fun t : qA => t.2.1) w))⟩⟩, fun e1 => ⟨by omega, nxt z (fun w => e1 (congrArg (fun t : qA => t.1) w))⟩⟩⟩
  rw [q6, q4, q2, q5, q3, q1, em]
  exact h1 j (by omega) (by rw [e1, e2, e3])
end

/-! QlRewrite, the reference (X56): thinning, till nothing more goes -/
section
variable {nm fr to fr' to' : Int → Int} {a b n v k x y c M0 : Int} {T0 : qA → Prop} {t : qA} {V W : Int → Prop} {A B : Prop}
/-- while one goes over the atoms: c whether anything was freed -/
def qT1 (a b : Int) (T0 : qA → Prop) (nm fr to : Int → Int) (n M0 c k : Int) : Prop := (0 ≤ k ∧ k ≤ n) ∧ qS0 a b T0 nm fr to n ∧ ((c = 1 ∧ qMs fr to n < M0) ∨ (c = 0 ∧ qMs fr to n = M0 ∧ ∀ i, 0 ≤ i → i < k → qNl a b fr to n i))
theorem T56_t55 {K10 : Int → Int → (Int → Int) → (Int → Int) → Prop} (hk : 0 ≤ k ∧ k < n) (S : qS0 a b T0 nm fr to n) (hc : (c = 1 ∧ qMs fr to n < M0) ∨ (c = 0 ∧ qMs fr to n = M0 ∧ (∀ i, 0 ≤ i → i < k → qNl a b fr to n i) ∧ (qOt a b (fr k) → ¬ qTm fr to (fr k) n.toNat = 1)))
  (hK : ∀ c' to', qT1 a b T0 nm fr to' n M0 c' (k + 1) → K10 c' (k + 1) fr to') : wX56_thin_55 K10 c k a b fr to n := by
  have hn := S.1
  unfold wX56_thin_55
  have stay : (qOt a b (to k) → ¬ qTm fr to (to k) n.toNat = 1) → K10 c (k + 1) fr to := fun h => hK c to ⟨by omega, S, hc.imp id (fun ⟨e, m, q, r⟩ => ⟨e, m, fun i i0 i1 => by
    by_cases z : i = k
    · rw [z]; exact ⟨r, h⟩
    · exact q i i0 (by omega)⟩)⟩
  refine ⟨by omega, T56_isOtherB (fun ho => T56_times hn ⟨fun z => fun _ e1 => ⟨by omega, fun _ e2 => ?_⟩, fun z => ⟨by omega, fun _ e2 => ?_⟩⟩) (fun ho => ⟨by omega, fun _ e2 => ?_⟩)⟩
  · rw [e1, e2]
    have m := qMs_T (fr := fr) (to := to) hk ho.1
    exact hK 1 _ ⟨by omega, S.freeT ho hk z, Or.inl ⟨rfl, by omega⟩⟩
  · rw [e2]; exact stay (fun _ => z)
  · rw [e2]; exact stay (fun h => absurd h ho)
theorem T56_t10 {K98 : Int → (Int → Int) → (Int → Int) → Prop} (hK : ∀ c fr to, qT1 a b T0 nm fr to n M0 c n → K98 c fr to) (S : qT1 a b T0 nm fr to n M0 0 0) : ∃ fu : Nat, wX56_thin_10 K98 a b n fu 0 0 fr to := by
  refine wl4 (fun fu c k fr to => wX56_thin_10 K98 a b n fu c k fr to) (fun c k fr to => qT1 a b T0 nm fr to n M0 c k) (fun _ k _ _ => (n - k).toNat) ?_ 0 0 fr to S
  rintro c k fr to ⟨hk, S, hc⟩ f ih
  have hn := S.1
  rw [wX56_thin_10]
  refine ⟨fun z => hK c fr to ⟨by omega, S, hc.imp id (fun ⟨e, m, q⟩ => ⟨e, m, fun i i0 i1 => q i i0 (by omega)⟩)⟩, fun z => ⟨by omega, T56_isOtherB (fun ho => T56_times hn ⟨fun y => fun _ e1 => ?_, fun y => ?_⟩) (fun ho => ?_)⟩⟩
  · rw [e1]
    have m := qMs_F (fr := fr) (to := to) (n := n) (k := k) ⟨hk.1, by omega⟩ ho.1
    refine T56_t55 ⟨hk.1, by omega⟩ (S.freeF ho ⟨hk.1, by omega⟩ y) (Or.inl ⟨rfl, by omega⟩) (fun c' to' h => ih _ _ _ _ h (by omega))
  · exact T56_t55 ⟨hk.1, by omega⟩ S (hc.imp id (fun ⟨e, m, q⟩ => ⟨e, m, q, fun _ => y⟩)) (fun c' to' h => ih _ _ _ _ h (by omega))
  · exact T56_t55 ⟨hk.1, by omega⟩ S (hc.imp id (fun ⟨e, m, q⟩ => ⟨e, m, q, fun h => absurd h ho⟩)) (fun c' to' h => ih _ _ _ _ h (by omega))
/-- while equal ones go, from the last one down -/
def qT2 (a b : Int) (T0 : qA → Prop) (M0 c k : Int) (nm fr to : Int → Int) (n : Int) : Prop := (-1 ≤ k ∧ k < n ∨ (k = -1 ∧ n = 0)) ∧ qS0 a b T0 nm fr to n ∧ ((c = 1 ∧ qMs fr to n < M0) ∨ (c = 0 ∧ qMs fr to n = M0 ∧ (∀ i, 0 ≤ i → i < n → qNl a b fr to n i) ∧ ∀ i j, 0 ≤ j → j < i → k < i → i < n → ¬ (nm j, fr j, to j) = (nm i, fr i, to i)))
theorem T56_t105 {K133 : Int → (Int → Int) → (Int → Int) → (Int → Int) → Int → Prop} (hK : ∀ c nm fr to n, qT2 a b T0 M0 c 0 nm fr to n ∨ qT2 a b T0 M0 c (-1) nm fr to n → K133 c nm fr to n) (hc : c = 0 ∨ c = 1) (S : qT2 a b T0 M0 c k nm fr to n) : ∃ fu : Nat, wX56_thin_105 K133 fu c k nm fr to n := by
  refine wloop (fun fu (s : Int × Int × (Int → Int) × (Int → Int) × (Int → Int) × Int) => wX56_thin_105 K133 fu s.1 s.2.1 s.2.2.1 s.2.2.2.1 s.2.2.2.2.1 s.2.2.2.2.2) (fun s => (s.1 = 0 ∨ s.1 = 1) ∧ qT2 a b T0 M0 s.1 s.2.1 s.2.2.1 s.2.2.2.1 s.2.2.2.2.1 s.2.2.2.2.2) (fun s => s.2.1.toNat) ?_ (c, k, nm, fr, to, n) ⟨hc, S⟩
  rintro ⟨c, k, nm, fr, to, n⟩ ⟨hc, S⟩ f ih
  dsimp only at *
  have ih' := fun c k nm fr to n => ih (c, k, nm, fr, to, n)
  dsimp only at ih'
  clear ih
  have S' := S
  obtain ⟨hk, S0, hd⟩ := S
  have hn := S0.1
  rw [wX56_thin_105]
  refine ⟨fun z => hK _ _ _ _ _ ?_, fun z => T56_goes hn.2 (by omega) (fun no => ⟨fun _ => ⟨fun c0 => ⟨by omega, fun k' ek => ?_⟩, fun c0 => ⟨by omega, fun k' ek => ?_⟩⟩, fun w => absurd rfl w⟩) (fun j hj e => ⟨fun w => absurd w (by decide), fun _ => ⟨by omega, fun k' ek => ?_⟩⟩)⟩
  · by_cases k0 : k = 0
    · rw [k0] at S'; exact Or.inl S'
    · rw [show k = -1 by omega] at S'; exact Or.inr S'
  · rw [ek, ← c0]
    refine ih' _ _ _ _ _ _ ⟨hc, ⟨by omega, S0, hd.imp id (fun ⟨h1, h2, h3, h4⟩ => ⟨h1, h2, h3, fun i j j0 j1 k1 i1 => ?_⟩)⟩⟩ (by omega)
    by_cases y : i = k
    · rw [y] at j1 ⊢; exact no j j0 j1
    · exact h4 i j j0 j1 (by omega) i1
  · have c1 : c = 1 := hc.resolve_left c0
    rw [ek, ← c1]
    refine ih' _ _ _ _ _ _ ⟨hc, ⟨by omega, S0, hd.imp id (fun ⟨h1, h2, h3, h4⟩ => absurd h1 c0)⟩⟩ (by omega)
  · rw [ek]
    have m := qMs_g (fr := fr) (to := to) (show 0 ≤ k ∧ k < n by omega)
    refine ih' _ _ _ _ _ _ ⟨Or.inr rfl, ⟨by omega, S0.goes (by omega) hj e, Or.inl ⟨rfl, ?_⟩⟩⟩ (by omega)
    rcases hd with hd | hd
    · omega
    · omega
/-- thinned: it is what comes of T0, each once -/
def qTh (a b : Int) (T0 : qA → Prop) (nm fr to : Int → Int) (n : Int) : Prop := (0 ≤ n ∧ n ≤ 4) ∧ qNf a b T0 (qAt nm fr to n) ∧ ∀ i j, 0 ≤ j → j < i → i < n → ¬ (nm j, fr j, to j) = (nm i, fr i, to i)
theorem qTh_of (S : qS0 a b T0 nm fr to n) (h1 : ∀ i, 0 ≤ i → i < n → qNl a b fr to n i) (h2 : ∀ i j, 0 ≤ j → j < i → i < n → ¬ (nm j, fr j, to j) = (nm i, fr i, to i)) : qTh a b T0 nm fr to n := by
  obtain ⟨hn, m, V, S1, S2⟩ := S
  have eT : qAt nm fr to n = qIm V T0 := funext fun t => propext (S2 t)
  refine ⟨hn, ⟨m, V, S1, fun v hv => ?_, S2⟩, h2⟩
  rw [← eT] at hv
  obtain ⟨ho, t, ⟨k, hk, rfl⟩, g1, g2⟩ := hv
  have oth : ∀ j, 0 ≤ j → j < n → ¬ j = k → ¬ fr j = v ∧ ¬ to j = v := fun j j0 j1 ne => by
    have nh : ¬ qHas (nm j, fr j, to j) v := fun hh => by
      have e := g2 _ ⟨j, ⟨j0, j1⟩, rfl⟩ hh
      by_cases z : j < k
      · exact h2 k j j0 z hk.2 e
      · exact h2 j k hk.1 (by omega) j1 e.symm
    exact ⟨fun e => nh (Or.inl e), fun e => nh (Or.inr e)⟩
  have hl := h1 k hk.1 hk.2
  rcases g1 with ⟨p, q⟩ | ⟨p, q⟩
  · have e := (qTm_1 (fr := fr) (to := to) hk ho.1 (Or.inl p)).2 ⟨Or.inl ⟨p, q⟩, oth⟩
    have p' : fr k = v := p
    have := hl.1 (by rw [p']; exact ho)
    rw [p'] at this
    exact this e
  · have e := (qTm_1 (fr := fr) (to := to) hk ho.1 (Or.inr q)).2 ⟨Or.inr ⟨p, q⟩, oth⟩
    have q' : to k = v := q
    have := hl.2 (by rw [q']; exact ho)
    rw [q'] at this
    exact this e
theorem T56_thin {post : (Int → Int) → (Int → Int) → (Int → Int) → Int → Prop} (hn : 0 ≤ n ∧ n ≤ 4) (hp : ∀ nm' fr' to' n', qTh a b (qAt nm fr to n) nm' fr' to' n' → post nm' fr' to' n') : wpX56_thin post a b nm fr to n := by
  unfold wpX56_thin
  have S : qS0 a b (qAt nm fr to n) nm fr to n := ⟨hn, 0, fun _ => False, fun _ h => h, fun t => ⟨fun h => ⟨t, h, by unfold qSt; rw [qSu_f (fun h => h), qSu_f (fun h => h)]⟩, fun ⟨s, hs, e⟩ => by
    rw [e]; unfold qSt; rw [qSu_f (fun h => h), qSu_f (fun h => h)]; exact hs⟩⟩
  generalize qAt nm fr to n = T0 at S hp
  refine wloop (fun fu (s : Int × (Int → Int) × (Int → Int) × (Int → Int) × Int) => wX56_thin_2 (fun nm fr to n => post nm fr to n) a b fu s.1 s.2.1 s.2.2.1 s.2.2.2.1 s.2.2.2.2) (fun s => qS0 a b T0 s.2.1 s.2.2.1 s.2.2.2.1 s.2.2.2.2 ∧ (s.1 = 1 ∨ (s.1 = 0 ∧ qTh a b T0 s.2.1 s.2.2.1 s.2.2.2.1 s.2.2.2.2))) (fun s => (2 * qMs s.2.2.1 s.2.2.2.1 s.2.2.2.2 + s.1).toNat) ?_ (1, nm, fr, to, n) ⟨S, Or.inl rfl⟩
  rintro ⟨c, nm, fr, to, n⟩ ⟨S, hc⟩ f ih
  dsimp only at *
  have ih' := fun c nm fr to n => ih (c, nm, fr, to, n)
  dsimp only at ih'
  clear ih
  have hn := S.1
  have mb := qMs_b (fr := fr) (to := to) hn.1
  rw [wX56_thin_2]
  refine ⟨fun z => ?_, fun z => ?_⟩
  · rcases hc with hc | hc
    · omega
    · exact hp _ _ _ _ hc.2
  · have c1 : c = 1 := hc.resolve_right (fun w => z w.1)
    refine T56_t10 (T0 := T0) (M0 := qMs fr to n) (nm := nm) (fun c2 fr2 to2 H => ⟨by omega, fun k' ek => T56_t105 (T0 := T0) (M0 := qMs fr to n) (a := a) (b := b) (fun c3 nm3 fr3 to3 n3 G => ?_) ?_ ⟨by omega, H.2.1, H.2.2.imp id (fun ⟨e, m, q⟩ => ⟨e, m, q, fun i j j0 j1 k1 i1 => by omega⟩)⟩⟩) ⟨by omega, S, Or.inr ⟨rfl, rfl, fun i i0 i1 => by omega⟩⟩
    · have G' : qS0 a b T0 nm3 fr3 to3 n3 ∧ ((c3 = 1 ∧ qMs fr3 to3 n3 < qMs fr to n) ∨ (c3 = 0 ∧ qTh a b T0 nm3 fr3 to3 n3)) := by
        rcases G with G | G
        · exact ⟨G.2.1, G.2.2.imp id (fun ⟨e, m, q, r⟩ => ⟨e, qTh_of G.2.1 q (fun i j j0 j1 i1 => r i j j0 j1 (by omega) i1)⟩)⟩
        · exact ⟨G.2.1, G.2.2.imp id (fun ⟨e, m, q, r⟩ => ⟨e, qTh_of G.2.1 q (fun i j j0 j1 i1 => r i j j0 j1 (by omega) i1)⟩)⟩
      have mb3 := qMs_b (fr := fr3) (to := to3) G'.1.1.1
      refine ih' _ _ _ _ _ ⟨G'.1, G'.2.imp (fun w => w.1) (fun w => w)⟩ ?_
      rcases G'.2 with w | w
      · omega
      · have G0 : qMs fr3 to3 n3 ≤ qMs fr to n := by
          rcases G with G | G
          · rcases G.2.2 with u | u
            · omega
            · exact Int.le_of_eq u.2.1
          · rcases G.2.2 with u | u
            · omega
            · exact Int.le_of_eq u.2.1
        omega
    · rcases H.2.2 with w | w
      · exact Or.inr w.1
      · exact Or.inl w.1
end
