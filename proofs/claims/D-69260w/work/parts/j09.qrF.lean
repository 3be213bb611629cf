/-! QlRewrite, the reference (X56): forms made from forms -/
def qAk (f : qFo) (k : Int) : qA := qDe (f.2.2.getD k.toNat 0)
def qWh (R : Int) (t : qA) : Int := if 20 ≤ R then (if t.1 = 32 + (R - 20) / 2 then (if R % 2 = 0 ∧ t.2.2 = 6 then t.2.1 else if R % 2 = 1 ∧ t.2.1 = 6 then t.2.2 else -1) else -1) else if t.1 = R then t.2.1 else -1
def qSr (L x : Int) : qA := (if 20 ≤ L then 32 + (L - 20) / 2 else L, if 20 ≤ L ∧ L % 2 = 1 then 6 else x, if L < 20 then 7 else if L % 2 = 0 then 6 else x)
def qWa (L R : Int) (t : qA) : qA := (32 + L / 2, if L % 2 = R % 2 then t.2.1 else t.2.2, if L % 2 = R % 2 then t.2.2 else t.2.1)
noncomputable def qFN (a b : Int) (l : List qA) : List Int := Classical.epsilon (qFm a b l)
noncomputable def qFin (a b : Int) (l : List qA) (S : List qFo × Int) : List qFo × Int := qKp S (qOn a, qTw a b, qFN a b l)
/-- an axiom is put to an atom of a form -/
noncomputable def qAx (kx L R : Int) (f : qFo) (k : Int) (S : List qFo × Int) : List qFo × Int :=
  if kx = 0 then (if qWh R (qAk f k) < 0 then S else qFin f.1 f.2.1 (aF (updI (qAk f) k (qSr L (qWh R (qAk f k)))) 0 f.2.2.length) S)
  else if kx = 1 then (if (qAk f k).1 = 32 + R / 2 then qFin f.1 f.2.1 (aF (updI (qAk f) k (qWa L R (qAk f k))) 0 f.2.2.length) S else S) else S
def qRv (o f v : Int) : Int := if v = o then f else v
def qRt (o f : Int) (t : qA) : qA := (t.1, qRv o f t.2.1, qRv o f t.2.2)
abbrev qDr : Type := Int × Int × (Int → qA)
def qRd (o f : Int) (D : qDr) : qDr := (qRv o f D.1, qRv o f D.2.1, fun k => qRt o f (D.2.2 k))
def qMF (i j : Int) (D : qDr) : qDr := if (D.2.2 i).2.1 = 6 then (D.1, D.2.1, updI D.2.2 i ((D.2.2 i).1, (D.2.2 j).2.1, (D.2.2 i).2.2)) else if (D.2.2 j).2.1 = 6 then (D.1, D.2.1, updI D.2.2 j ((D.2.2 j).1, (D.2.2 i).2.1, (D.2.2 j).2.2)) else if (D.2.2 i).2.1 = (D.2.2 j).2.1 then D else if (D.2.2 i).2.1 ≤ (D.2.2 j).2.1 then qRd (D.2.2 j).2.1 (D.2.2 i).2.1 D else qRd (D.2.2 i).2.1 (D.2.2 j).2.1 D
def qMT (i j : Int) (D : qDr) : qDr := if (D.2.2 i).2.2 = 6 then (D.1, D.2.1, updI D.2.2 i ((D.2.2 i).1, (D.2.2 i).2.1, (D.2.2 j).2.2)) else if (D.2.2 j).2.2 = 6 then (D.1, D.2.1, updI D.2.2 j ((D.2.2 j).1, (D.2.2 j).2.1, (D.2.2 i).2.2)) else if (D.2.2 i).2.2 = (D.2.2 j).2.2 then D else if (D.2.2 i).2.2 ≤ (D.2.2 j).2.2 then qRd (D.2.2 j).2.2 (D.2.2 i).2.2 D else qRd (D.2.2 i).2.2 (D.2.2 j).2.2 D
/-- two atoms of a form become one, as far as they can -/
noncomputable def qJn (f : qFo) (i j : Int) (S : List qFo × Int) : List qFo × Int := if (qAk f i).1 = (qAk f j).1 then qFin (qMT i j (qMF i j (f.1, f.2.1, qAk f))).1 (qMT i j (qMF i j (f.1, f.2.1, qAk f))).2.1 (aF (qMT i j (qMF i j (f.1, f.2.1, qAk f))).2.2 0 f.2.2.length) S else S
def qFg (FL : List qFo) : Prop := ∀ f ∈ FL, (∀ u ∈ f.2.2, qGc u) ∧ 1 ≤ f.2.2.length ∧ f.1 < 6 ∧ f.2.1 < 6
/-- what a sort may be, what axioms are -/
def qSo (s : Int) : Prop := (0 ≤ s ∧ s < 10) ∨ (20 ≤ s ∧ s < 36)
def qAi (kd lf rt : Int → Int) (n : Int) : Prop := (0 ≤ n ∧ n ≤ 16) ∧ ∀ x, 0 ≤ x → x < n → (0 ≤ kd x ∧ kd x < 4) ∧ (kd x % 2 = 0 → qSo (lf x) ∧ qSo (rt x)) ∧ (kd x % 2 = 1 → (0 ≤ lf x ∧ lf x < 16) ∧ 0 ≤ rt x ∧ rt x < 16)
section
variable {nm fr to ot co le fs ff fg fc kd lf rt : Int → Int} {a b n v w k x y c m oc lg o f i j : Int} {T0 : qA → Prop} {P Q : Int → Prop} {l : List qA} {d : List Int} {S : List qFo × Int} {F : qFo} {D : qDr}
theorem qFN_e (h : qFm a b l d) : qFN a b l = d := qFm_u (Classical.epsilon_spec (p := qFm a b l) ⟨d, h⟩) h (fun _ => Iff.rfl)
theorem qFm_ne (h : qFm a b l d) (hl : ∃ t, t ∈ l) : 1 ≤ d.length := by
  obtain ⟨l', _, ⟨_, V, _, _, h3⟩, _, _, _, ⟨_, _, r2⟩, _⟩ := h
  obtain ⟨t, ht⟩ := hl
  have m := (h3 (qSt V t)).2 ⟨t, ht, rfl⟩
  have e := r2.1.length_eq
  rw [List.length_map] at e
  have := List.length_pos_of_mem m
  omega
theorem qKp_g (h : qFg S.1) (hF : (∀ u ∈ F.2.2, qGc u) ∧ 1 ≤ F.2.2.length ∧ F.1 < 6 ∧ F.2.1 < 6) : qFg (qKp S F).1 := by
  unfold qKp
  by_cases z : F ∈ S.1
  · rw [pif_t z]; exact h
  · rw [pif_f z]
    split
    · exact h
    · intro g hg
      rcases List.mem_append.1 hg with q | q
      · exact h g q
      · rw [List.mem_singleton.1 q]; exact hF
theorem qOn_b : qOn a < 6 := by
  unfold qOn
  split <;> decide
theorem qTw_b : qTw a b < 6 := by
  unfold qTw
  split
  · decide
  · split <;> decide
theorem T56_fin {post : (Int → Int) → (Int → Int) → (Int → Int) → Int → (Int → Int) → (Int → Int) → (Int → Int) → Int → (Int → Int) → (Int → Int) → (Int → Int) → (Int → Int) → Int → Int → Prop} (hF : qFb fs m) (hG : qFg (aF (qFoA fs ff fg fc) 0 m.toNat)) (hn : 1 ≤ n ∧ n ≤ 4) (hg : ∀ k, 0 ≤ k → k < n → qGa (nm k, fr k, to k)) (hl : aF (qAr nm fr to) 0 n.toNat = l)
  (hp : ∀ nm' fr' to' n' co' le' ot' oc' fs' ff' fg' fc' m' lg', qFb fs' m' → qFg (aF (qFoA fs' ff' fg' fc') 0 m'.toNat) → (aF (qFoA fs' ff' fg' fc') 0 m'.toNat, lg') = qFin a b l (aF (qFoA fs ff fg fc) 0 m.toNat, lg) → post nm' fr' to' n' co' le' ot' oc' fs' ff' fg' fc' m' lg') : wpX56_finish post a b nm fr to n co le ot fs ff fg fc m lg := by
  refine T56_finish hF ⟨by omega, hn.2⟩ hg (fun d hd gd nm' fr' to' n' co' le' ot' oc' fs' ff' fg' fc' m' lg' F' e => hp _ _ _ _ _ _ _ _ _ _ _ _ _ _ F' ?_ ?_)
  · have := qKp_g (S := (aF (qFoA fs ff fg fc) 0 m.toNat, lg)) (F := (qOn a, qTw a b, d)) hG ⟨gd, qFm_ne hd ⟨_, (aF_mem _ _).2 ⟨0, by omega, rfl⟩⟩, qOn_b, qTw_b⟩
    rw [← e] at this
    exact this
  · rw [hl] at hd
    unfold qFin
    rw [qFN_e hd]; exact e
theorem qAk_A (h : 0 ≤ k ∧ k < fs x) : qAk (qFoA fs ff fg fc x) k = qDe (fc (4 * x + k)) := by
  unfold qAk qFoA
  dsimp only
  rw [aF_get _ _ _ (by omega), show 4 * x + (k.toNat : Int) = 4 * x + k by omega]
theorem qLn_A (h : 0 ≤ fs x) : (((qFoA fs ff fg fc x).2.2.length : Nat) : Int) = fs x := by
  unfold qFoA
  dsimp only
  rw [aF_len]; omega
theorem qFg_k (hG : qFg (aF (qFoA fs ff fg fc) 0 m.toNat)) (hx : 0 ≤ x ∧ x < m) (h : 0 ≤ k ∧ k < fs x) : qGc (fc (4 * x + k)) := (hG _ ((aF_mem _ _).2 ⟨x, by omega, rfl⟩)).1 _ ((aF_mem _ _).2 ⟨4 * x + k, by omega, rfl⟩)
theorem T56_load {post : Int → Int → (Int → Int) → (Int → Int) → (Int → Int) → Int → Prop} (hF : qFb fs m) (hG : qFg (aF (qFoA fs ff fg fc) 0 m.toNat)) (hx : 0 ≤ x ∧ x < m) (hp : ∀ nm' fr' to', (∀ k, 0 ≤ k → k < fs x → (nm' k, fr' k, to' k) = qAk (qFoA fs ff fg fc x) k ∧ qGa (nm' k, fr' k, to' k)) → post (ff x) (fg x) nm' fr' to' (fs x)) : wpX56_load post nm fr to fs ff fg fc x := by
  obtain ⟨hm, hb⟩ := hF
  have hs := hb x hx.1 hx.2
  unfold wpX56_load wpX56_begin
  refine ⟨by omega, ?_⟩
  refine wloop (fun fu (s : Int × (Int → Int) × (Int → Int) × (Int → Int) × Int) => wX56_load_18 _ x fs fc fu s.1 s.2.1 s.2.2.1 s.2.2.2.1 s.2.2.2.2) (fun s => (0 ≤ s.1 ∧ s.1 ≤ fs x) ∧ s.2.2.2.2 = s.1 ∧ ∀ k, 0 ≤ k → k < s.1 → (s.2.1 k, s.2.2.1 k, s.2.2.2.1 k) = qDe (fc (4 * x + k))) (fun s => (fs x - s.1).toNat) ?_ (0, nm, fr, to, 0) ⟨by dsimp only; omega, rfl, fun k k0 k1 => by dsimp only at k1; omega⟩
  rintro ⟨i, nm, fr, to, q⟩ ⟨hi, hq, he⟩ f ih
  dsimp only at *
  have ih' := fun i nm fr to q => ih (i, nm, fr, to, q)
  dsimp only at ih'
  clear ih
  subst hq
  rw [wX56_load_18]
  refine ⟨by omega, fun z => ?_, fun z => ⟨by omega, fun u eu => ?_⟩⟩
  · have ei : q = fs x := by omega
    rw [ei] at he ⊢
    exact hp nm fr to (fun k k0 k1 => by
      have e := he k k0 k1
      rw [qAk_A ⟨k0, k1⟩, e]
      exact ⟨rfl, (qFg_k hG hx ⟨k0, k1⟩).2⟩)
  · have g := (qFg_k hG hx (k := q) ⟨hi.1, by omega⟩).1
    rw [← eu] at g
    unfold wpX56_add
    refine ⟨g, by omega, by omega, fun _ e1 _ e2 _ e3 => ⟨by omega, fun _ e4 => ⟨by omega, fun _ e5 => ?_⟩⟩⟩
    rw [e5, e4, e3, e2, e1]
    refine ih' _ _ _ _ _ ⟨by omega, rfl, fun k k0 k1 => ?_⟩ (by omega)
    by_cases p : k = q
    · rw [p, updI_s, updI_s, updI_s, eu]; rfl
    · rw [updI_n p, updI_n p, updI_n p]; exact he k k0 (by omega)
end
