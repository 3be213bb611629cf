/-! QlRewrite, the reference (X56): all forms of a question -/
abbrev qSS : Type := List qFo × Int
section
variable (kd lf rt : Int → Int) (na : Int)
noncomputable def qX (f : qFo) (k : Int) : Nat → Int → qSS → qSS
  | 0, _, S => S
  | j + 1, x, S => qX f k j (x + 1) (qAx (kd x) (lf x) (rt x) f k S)
noncomputable def qY (f : qFo) : Nat → Int → qSS → qSS
  | 0, _, S => S
  | j + 1, k, S => qY f j (k + 1) (qX kd lf rt f k na.toNat 0 S)
noncomputable def qJ1 (f : qFo) (i : Int) : Nat → Int → qSS → qSS
  | 0, _, S => S
  | p + 1, j, S => qJ1 f i p (j + 1) (qJn f i j S)
noncomputable def qJ2 (f : qFo) : Nat → Int → qSS → qSS
  | 0, _, S => S
  | p + 1, i, S => qJ2 f p (i + 1) (qJ1 f i p (i + 1) S)
noncomputable def qTn (f : qFo) (S : qSS) : qSS := qJ2 f f.2.2.length 0 (qY kd lf rt na f f.2.2.length 0 S)
noncomputable def qZ : Nat → Int → qSS → qSS
  | 0, _, S => S
  | p + 1, i, S => if i < S.1.length ∧ S.2 = 0 then qZ p (i + 1) (qTn kd lf rt na (S.1.getD i.toNat (0, 0, [])) S) else S
end
/-- the arrays hold S -/
def qI (S : qSS) (fs ff fg fc : Int → Int) (m lg : Int) : Prop := qFb fs m ∧ qFg (aF (qFoA fs ff fg fc) 0 m.toNat) ∧ (aF (qFoA fs ff fg fc) 0 m.toNat, lg) = S
/-- f stands at x -/
def qHo (f : qFo) (x : Int) (fs ff fg fc : Int → Int) (m : Int) : Prop := (0 ≤ x ∧ x < m) ∧ qFoA fs ff fg fc x = f
def qPx (S S' : qSS) : Prop := ∃ r, S'.1 = S.1 ++ r
section
variable {nm fr to ot co le fs ff fg fc fs' ff' fg' fc' kd lf rt : Int → Int} {a b n v w k x y c m m' oc lg lg' o i j na : Int} {l : List qA} {d : List Int} {f F : qFo} {S S' S'' : qSS}
theorem qPx.refl : qPx S S := ⟨[], (List.append_nil _).symm⟩
theorem qPx.tr (h : qPx S S') (g : qPx S' S'') : qPx S S'' := by
  obtain ⟨r, e⟩ := h
  obtain ⟨q, e2⟩ := g
  exact ⟨r ++ q, by rw [e2, e, List.append_assoc]⟩
theorem qKp_x : qPx S (qKp S f) := by
  unfold qKp
  by_cases z : f ∈ S.1
  · rw [pif_t z]; exact qPx.refl
  · rw [pif_f z]
    split
    · exact ⟨[], (List.append_nil _).symm⟩
    · exact ⟨_, rfl⟩
theorem qAx_x {kx L R : Int} : qPx S (qAx kx L R f k S) := by
  unfold qAx
  split
  · split
    · exact qPx.refl
    · exact qKp_x
  · split
    · split
      · exact qKp_x
      · exact qPx.refl
    · exact qPx.refl
theorem qJn_x : qPx S (qJn f i j S) := by
  unfold qJn
  split
  · exact qKp_x
  · exact qPx.refl
theorem qX_x : ∀ (p : Nat) (x : Int) (S : qSS), qPx S (qX kd lf rt f k p x S)
  | 0, _, _ => qPx.refl
  | p + 1, x, S => qAx_x.tr (qX_x p (x + 1) _)
theorem qY_x : ∀ (p : Nat) (k : Int) (S : qSS), qPx S (qY kd lf rt na f p k S)
  | 0, _, _ => qPx.refl
  | p + 1, k, S => (qX_x _ _ _).tr (qY_x p (k + 1) _)
theorem qJ1_x : ∀ (p : Nat) (j : Int) (S : qSS), qPx S (qJ1 f i p j S)
  | 0, _, _ => qPx.refl
  | p + 1, j, S => qJn_x.tr (qJ1_x p (j + 1) _)
theorem qJ2_x : ∀ (p : Nat) (i : Int) (S : qSS), qPx S (qJ2 f p i S)
  | 0, _, _ => qPx.refl
  | p + 1, i, S => (qJ1_x _ _ _).tr (qJ2_x p (i + 1) _)
theorem qI.ho (H : qHo f x fs ff fg fc m) (I : qI S fs ff fg fc m lg) (I' : qI S' fs' ff' fg' fc' m' lg') (P : qPx S S') : qHo f x fs' ff' fg' fc' m' := by
  obtain ⟨⟨hm, hb⟩, _, e⟩ := I
  obtain ⟨⟨hm', hb'⟩, _, e'⟩ := I'
  obtain ⟨r, er⟩ := P
  have e1 : aF (qFoA fs ff fg fc) 0 m.toNat = S.1 := congrArg (fun t : qSS => t.1) e
  have e2 : aF (qFoA fs' ff' fg' fc') 0 m'.toNat = S'.1 := congrArg (fun t : qSS => t.1) e'
  rw [← e1, ← e2] at er
  have el := congrArg List.length er
  rw [aF_len, List.length_append, aF_len] at el
  have hx := H.1
  refine ⟨by omega, ?_⟩
  have g1 := aF_get (f := qFoA fs ff fg fc) (d := f) m.toNat 0 x.toNat (by omega)
  have g2 := aF_get (f := qFoA fs' ff' fg' fc') (d := f) m'.toNat 0 x.toNat (by omega)
  rw [er, List.getD_eq_getElem?_getD, List.getElem?_append_left (by rw [aF_len]; omega), ← List.getD_eq_getElem?_getD, g1] at g2
  rw [show (0 : Int) + (x.toNat : Int) = x by omega] at g2
  rw [← g2]; exact H.2
theorem qHo.len (H : qHo f x fs ff fg fc m) (hb : qFb fs m) : (f.2.2.length : Int) = fs x ∧ 0 ≤ fs x ∧ fs x ≤ 4 := by
  have h := hb.2 x H.1.1 H.1.2
  rw [← H.2]
  exact ⟨qLn_A h.1, h⟩
theorem T56_l152 {K : Int → Int → (Int → Int) → (Int → Int) → (Int → Int) → Int → (Int → Int) → (Int → Int) → (Int → Int) → Int → (Int → Int) → (Int → Int) → (Int → Int) → (Int → Int) → Int → Int → Prop} (hA : qAi kd lf rt na) (hk : 0 ≤ k ∧ k < f.2.2.length) : ∀ (j : Nat) (y : Int) (S : qSS) (a b : Int) (nm fr to : Int → Int) (n : Int) (co le ot : Int → Int) (oc : Int) (fs ff fg fc : Int → Int) (m lg : Int), y + j = na → 0 ≤ y → qI S fs ff fg fc m lg → qHo f x fs ff fg fc m → (∀ a' b' nm' fr' to' n' co' le' ot' oc' fs' ff' fg' fc' m' lg', qI (qX kd lf rt f k j y S) fs' ff' fg' fc' m' lg' → qHo f x fs' ff' fg' fc' m' → K a' b' nm' fr' to' n' co' le' ot' oc' fs' ff' fg' fc' m' lg') → wX56_look_152 K x k kd lf rt na (j + 1) y a b nm fr to n co le ot oc fs ff fg fc m lg := fun j => by
  induction j with
  | zero =>
    intro y S a b nm fr to n co le ot oc fs ff fg fc m lg hy y0 I H hK
    rw [wX56_look_152]
    exact ⟨fun _ => hK _ _ _ _ _ _ _ _ _ _ _ _ _ _ _ _ I H, fun z => by omega⟩
  | succ j ih =>
    intro y S a b nm fr to n co le ot oc fs ff fg fc m lg hy y0 I H hK
    obtain ⟨kb, ke, ko⟩ := hA.2 y y0 (by omega)
    have na16 := hA.1
    have ln := H.len I.1
    have hx : 0 ≤ x ∧ x < m := H.1
    have nxt : ∀ a' b' nm' fr' to' n' co' le' ot' oc' fs' ff' fg' fc' m' lg', qI (qAx (kd y) (lf y) (rt y) f k S) fs' ff' fg' fc' m' lg' → ∀ y' : Int, y' = y + 1 → wX56_look_152 K x k kd lf rt na (j + 1) y' a' b' nm' fr' to' n' co' le' ot' oc' fs' ff' fg' fc' m' lg' := fun a' b' nm' fr' to' n' co' le' ot' oc' fs' ff' fg' fc' m' lg' I' y' ey => by
      rw [ey]
      exact ih _ _ _ _ _ _ _ _ _ _ _ _ _ _ _ _ _ _ (by omega) (by omega) I' (qI.ho H I I' qAx_x) hK
    rw [wX56_look_152]
    refine ⟨fun z => by omega, fun z => ⟨by omega, fun k0 => ?_, fun k0 => ?_⟩⟩
    · rw [k0] at nxt ke
      have ke := ke rfl
      refine T56_rewriteSort I.1 I.2.1 hx (by omega) (by omega) ke.1 ke.2 (fun a' b' nm' fr' to' n' co' le' ot' oc' fs' ff' fg' fc' m' lg' F' G' e => ?_)
      rw [I.2.2, H.2] at e
      unfold wX56_look_179
      exact ⟨by omega, fun k1 => by omega, fun _ => ⟨by omega, nxt _ _ _ _ _ _ _ _ _ _ _ _ _ _ _ _ ⟨F', G', e⟩⟩⟩
    · unfold wX56_look_179
      refine ⟨by omega, fun k1 => ?_, fun k1 => ⟨by omega, ?_⟩⟩
      · rw [k1] at nxt ko
        have ko := ko rfl
        refine T56_rewriteWay I.1 I.2.1 hx (by omega) (by omega) ko.1 ko.2 (fun a' b' nm' fr' to' n' co' le' ot' oc' fs' ff' fg' fc' m' lg' F' G' e => ?_)
        rw [I.2.2, H.2] at e
        exact ⟨by omega, nxt _ _ _ _ _ _ _ _ _ _ _ _ _ _ _ _ ⟨F', G', e⟩⟩
      · refine nxt _ _ _ _ _ _ _ _ _ _ _ _ _ _ _ _ ?_
        unfold qAx
        rw [if_neg k0, if_neg k1]; exact I
theorem T56_l139 {K : Int → Int → (Int → Int) → (Int → Int) → (Int → Int) → Int → (Int → Int) → (Int → Int) → (Int → Int) → Int → (Int → Int) → (Int → Int) → (Int → Int) → (Int → Int) → Int → Int → Prop} (hA : qAi kd lf rt na) : ∀ (j : Nat) (k : Int) (S : qSS) (a b : Int) (nm fr to : Int → Int) (n : Int) (co le ot : Int → Int) (oc : Int) (fs ff fg fc : Int → Int) (m lg : Int), k + j = f.2.2.length → 0 ≤ k → qI S fs ff fg fc m lg → qHo f x fs ff fg fc m → (∀ a' b' nm' fr' to' n' co' le' ot' oc' fs' ff' fg' fc' m' lg', qI (qY kd lf rt na f j k S) fs' ff' fg' fc' m' lg' → qHo f x fs' ff' fg' fc' m' → K a' b' nm' fr' to' n' co' le' ot' oc' fs' ff' fg' fc' m' lg') → wX56_look_139 K x kd lf rt na (j + 1) k a b nm fr to n co le ot oc fs ff fg fc m lg := fun j => by
  induction j with
  | zero =>
    intro k S a b nm fr to n co le ot oc fs ff fg fc m lg hy y0 I H hK
    have ln := H.len I.1
    have hx : 0 ≤ x ∧ x < m := H.1
    have hm := I.1.1
    rw [wX56_look_139]
    exact ⟨by omega, fun _ => hK _ _ _ _ _ _ _ _ _ _ _ _ _ _ _ _ I H, fun z => by omega⟩
  | succ j ih =>
    intro k S a b nm fr to n co le ot oc fs ff fg fc m lg hy y0 I H hK
    have ln := H.len I.1
    have hx : 0 ≤ x ∧ x < m := H.1
    have hm := I.1.1
    have na16 := hA.1
    rw [wX56_look_139]
    refine ⟨by omega, fun z => by omega, fun z => ⟨na.toNat + 1, T56_l152 hA (by omega) na.toNat 0 S _ _ _ _ _ _ _ _ _ _ _ _ _ _ _ _ (by omega) (by decide) I H (fun a' b' nm' fr' to' n' co' le' ot' oc' fs' ff' fg' fc' m' lg' I' H' => ⟨by omega, fun k' ek => ?_⟩)⟩⟩
    rw [ek]
    exact ih _ _ _ _ _ _ _ _ _ _ _ _ _ _ _ _ _ _ (by omega) (by omega) I' H' hK
theorem T56_l227 {K : Int → Int → (Int → Int) → (Int → Int) → (Int → Int) → Int → (Int → Int) → (Int → Int) → (Int → Int) → Int → (Int → Int) → (Int → Int) → (Int → Int) → (Int → Int) → Int → Int → Prop} (hi : 0 ≤ i ∧ i < f.2.2.length) : ∀ (p : Nat) (j : Int) (S : qSS) (a b : Int) (nm fr to : Int → Int) (n : Int) (co le ot : Int → Int) (oc : Int) (fs ff fg fc : Int → Int) (m lg : Int), j + p = f.2.2.length → i < j → qI S fs ff fg fc m lg → qHo f x fs ff fg fc m → (∀ a' b' nm' fr' to' n' co' le' ot' oc' fs' ff' fg' fc' m' lg', qI (qJ1 f i p j S) fs' ff' fg' fc' m' lg' → qHo f x fs' ff' fg' fc' m' → K a' b' nm' fr' to' n' co' le' ot' oc' fs' ff' fg' fc' m' lg') → wX56_look_227 K x i (p + 1) j a b nm fr to n co le ot oc fs ff fg fc m lg := fun p => by
  induction p with
  | zero =>
    intro j S a b nm fr to n co le ot oc fs ff fg fc m lg hy y0 I H hK
    have ln := H.len I.1
    have hx : 0 ≤ x ∧ x < m := H.1
    have hm := I.1.1
    rw [wX56_look_227]
    exact ⟨by omega, fun _ => hK _ _ _ _ _ _ _ _ _ _ _ _ _ _ _ _ I H, fun z => by omega⟩
  | succ p ih =>
    intro j S a b nm fr to n co le ot oc fs ff fg fc m lg hy y0 I H hK
    have ln := H.len I.1
    have hx : 0 ≤ x ∧ x < m := H.1
    have hm := I.1.1
    rw [wX56_look_227]
    refine ⟨by omega, fun z => by omega, fun z => T56_unite I.1 I.2.1 hx (by omega) (by omega) (by omega) (fun a' b' nm' fr' to' n' co' le' ot' oc' fs' ff' fg' fc' m' lg' F' G' e => ⟨by omega, fun j' ej => ?_⟩)⟩
    rw [I.2.2, H.2] at e
    have I' : qI (qJn f i j S) fs' ff' fg' fc' m' lg' := ⟨F', G', e⟩
    rw [ej]
    exact ih _ _ _ _ _ _ _ _ _ _ _ _ _ _ _ _ _ _ (by omega) (by omega) I' (qI.ho H I I' qJn_x) hK
theorem T56_l212 {K : Int → Int → (Int → Int) → (Int → Int) → (Int → Int) → Int → (Int → Int) → (Int → Int) → (Int → Int) → Int → (Int → Int) → (Int → Int) → (Int → Int) → (Int → Int) → Int → Int → Prop} : ∀ (p : Nat) (i : Int) (S : qSS) (a b : Int) (nm fr to : Int → Int) (n : Int) (co le ot : Int → Int) (oc : Int) (fs ff fg fc : Int → Int) (m lg : Int), i + p = f.2.2.length → 0 ≤ i → qI S fs ff fg fc m lg → qHo f x fs ff fg fc m → (∀ a' b' nm' fr' to' n' co' le' ot' oc' fs' ff' fg' fc' m' lg', qI (qJ2 f p i S) fs' ff' fg' fc' m' lg' → qHo f x fs' ff' fg' fc' m' → K a' b' nm' fr' to' n' co' le' ot' oc' fs' ff' fg' fc' m' lg') → wX56_look_212 K x (p + 1) i a b nm fr to n co le ot oc fs ff fg fc m lg := fun p => by
  induction p with
  | zero =>
    intro j S a b nm fr to n co le ot oc fs ff fg fc m lg hy y0 I H hK
    have ln := H.len I.1
    have hx : 0 ≤ x ∧ x < m := H.1
    have hm := I.1.1
    rw [wX56_look_212]
    exact ⟨by omega, fun _ => hK _ _ _ _ _ _ _ _ _ _ _ _ _ _ _ _ I H, fun z => by omega⟩
  | succ p ih =>
    intro j S a b nm fr to n co le ot oc fs ff fg fc m lg hy y0 I H hK
    have ln := H.len I.1
    have hx : 0 ≤ x ∧ x < m := H.1
    have hm := I.1.1
    rw [wX56_look_212]
    refine ⟨by omega, fun z => by omega, fun z => ⟨by omega, fun j1 ej1 => ⟨p + 1, ?_⟩⟩⟩
    rw [ej1]
    refine T56_l227 (by omega) p (j + 1) S _ _ _ _ _ _ _ _ _ _ _ _ _ _ _ _ (by omega) (by omega) I H (fun a' b' nm' fr' to' n' co' le' ot' oc' fs' ff' fg' fc' m' lg' I' H' k' ek => ?_)
    rw [ek]
    exact ih _ _ _ _ _ _ _ _ _ _ _ _ _ _ _ _ _ _ (by omega) (by omega) I' H' hK
theorem T56_l122 {K : Int → Int → (Int → Int) → (Int → Int) → (Int → Int) → Int → (Int → Int) → (Int → Int) → (Int → Int) → Int → (Int → Int) → (Int → Int) → (Int → Int) → (Int → Int) → Int → Int → Prop} (hA : qAi kd lf rt na) : ∀ (p : Nat) (i : Int) (S : qSS) (a b : Int) (nm fr to : Int → Int) (n : Int) (co le ot : Int → Int) (oc : Int) (fs ff fg fc : Int → Int) (m lg : Int), i + p = 91 → 0 ≤ i → qI S fs ff fg fc m lg → (∀ a' b' nm' fr' to' n' co' le' ot' oc' fs' ff' fg' fc' m' lg', qI (qZ kd lf rt na p i S) fs' ff' fg' fc' m' lg' → K a' b' nm' fr' to' n' co' le' ot' oc' fs' ff' fg' fc' m' lg') → wX56_look_122 K kd lf rt na (p + 1) i a b nm fr to n co le ot oc fs ff fg fc m lg := fun p => by
  induction p with
  | zero =>
    intro i S a b nm fr to n co le ot oc fs ff fg fc m lg hi i0 I hK
    have hm := I.1.1
    rw [wX56_look_122]
    exact ⟨fun _ => hK _ _ _ _ _ _ _ _ _ _ _ _ _ _ _ _ I, fun z => by omega⟩
  | succ p ih =>
    intro i S a b nm fr to n co le ot oc fs ff fg fc m lg hi i0 I hK
    have hm := I.1.1
    have e1 : aF (qFoA fs ff fg fc) 0 m.toNat = S.1 := congrArg (fun t : qSS => t.1) I.2.2
    have e2 : lg = S.2 := congrArg (fun t : qSS => t.2) I.2.2
    have el : (S.1.length : Int) = m := by rw [← e1, aF_len]; omega
    rw [wX56_look_122]
    rw [qZ] at hK
    refine ⟨fun z => ?_, fun z => ⟨fun l0 => ?_, fun l0 => ?_⟩⟩
    · rw [if_neg (fun w => by omega)] at hK
      exact hK _ _ _ _ _ _ _ _ _ _ _ _ _ _ _ _ I
    · rw [if_pos ⟨by omega, by omega⟩] at hK
      have ef : qFoA fs ff fg fc i = S.1.getD i.toNat (0, 0, []) := by
        rw [← e1, aF_get _ _ _ (by omega), show (0 : Int) + (i.toNat : Int) = i by omega]
      have H : qHo (S.1.getD i.toNat (0, 0, [])) i fs ff fg fc m := ⟨by omega, ef⟩
      generalize S.1.getD i.toNat (0, 0, []) = f at hK H
      have ln := H.len I.1
      refine ⟨f.2.2.length + 1, T56_l139 hA f.2.2.length 0 S _ _ _ _ _ _ _ _ _ _ _ _ _ _ _ _ (by omega) (by decide) I H (fun a1 b1 nm1 fr1 to1 n1 co1 le1 ot1 oc1 fs1 ff1 fg1 fc1 m1 lg1 I1 H1 => ⟨f.2.2.length + 1, T56_l212 f.2.2.length 0 _ _ _ _ _ _ _ _ _ _ _ _ _ _ _ _ _ (by omega) (by decide) I1 H1 (fun a2 b2 nm2 fr2 to2 n2 co2 le2 ot2 oc2 fs2 ff2 fg2 fc2 m2 lg2 I2 H2 => ⟨by omega, fun i' ei => ?_⟩)⟩)⟩
      rw [ei]
      exact ih _ _ _ _ _ _ _ _ _ _ _ _ _ _ _ _ _ _ (by omega) (by omega) I2 hK
    · rw [if_neg (fun w => by omega)] at hK
      exact hK _ _ _ _ _ _ _ _ _ _ _ _ _ _ _ _ I
end
