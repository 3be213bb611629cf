/-! RightDeskModel (X51): all asks -/
/-- a count over an index that runs up to N -/
theorem zcount {σ : Type} (W : Nat → Int → Int → σ → Prop) (p : Int → Prop) (N : Int) (hN : 0 ≤ N) (h : ∀ n c i s, c = cntI p i.toNat → 0 ≤ i → i ≤ N → 0 ≤ c → c ≤ i → (∀ s', i < N → (p i → W n (c + 1) (i + 1) s') ∧ (¬ p i → W n (c + 0) (i + 1) s')) → W (n + 1) c i s) (s : σ) : ∃ n, W n 0 0 s := by
  refine wl3 W (fun c i s => (0 ≤ i ∧ i ≤ N) ∧ c = cntI p i.toNat) (fun c i s => (N - i).toNat) ?_ 0 0 s ⟨⟨Int.le_refl _, hN⟩, rfl⟩
  rintro c i s ⟨hi, e⟩ n ih
  have hb := cntI_b p i.toNat
  refine h n c i s e hi.1 hi.2 (by omega) (by omega) (fun s' hlt => ⟨fun hp => ih _ _ _ ⟨by omega, ?_⟩ (by omega), fun hp => ih _ _ _ ⟨by omega, ?_⟩ (by omega)⟩)
  · rw [cntI_t hi.1 hp, e]
  · rw [cntI_f hi.1 hp, e, Int.add_zero]
section
variable {g kk a b c rk dn wn : Int → Int} {nc nr : Int}
theorem T51_isHeldB {A B : (Int → Int) → Prop} {h : Int → Int} {x q : Int} (hC : rdC kk a b c nc) (hx : 0 ≤ x ∧ x < nc) (hq : 0 ≤ q ∧ q < 6144) (h1 : ¬ rdH g kk a b c q x = 0 → ∀ h', B h') (h0 : rdH g kk a b c q x = 0 → ∀ h', A h') : wpX51_isHeld (fun r h => (r = 0 → A h) ∧ (¬ r = 0 → B h)) g kk a b c h x q := by
  have hn := hC.1
  unfold wpX51_isHeld
  refine ⟨by omega, T51_look hC hq ⟨by omega, by omega⟩ (fun h' hh => ?_)⟩
  have e := hh x (by omega) (by omega)
  rw [e]
  exact ⟨by omega, rdH_01 hx.1 (hC.2 x hx.1 hx.2), fun z => h0 z h', fun z => h1 z h'⟩
def rdHq (g kk a b c : Int → Int) (x : Int) : Int → Prop := fun q => ¬ rdH g kk a b c q x = 0
noncomputable def rdAsks (g kk a b c : Int → Int) (nc x : Int) : Int := if 0 ≤ x ∧ x < nc then cntI (rdHq g kk a b c x) 6144 else -1
theorem T51_asks {post : Int → (Int → Int) → Prop} {h : Int → Int} {x : Int} (hC : rdC kk a b c nc) (hp : ∀ h', post (rdAsks g kk a b c nc x) h') : wpX51_asks post g kk a b c nc h x := by
  unfold wpX51_asks
  unfold rdAsks at hp
  refine T51_inB (fun a1 a2 => ?_) (fun z => by rw [if_neg z] at hp; exact hp h)
  rw [if_pos ⟨a1, a2⟩] at hp
  refine zcount _ (rdHq g kk a b c x) 6144 (by decide) ?_ h
  intro n m i s e i0 i1 m0 m1 ih
  rw [wX51_asks_17]
  refine ⟨fun z => ?_, fun z => T51_isHeldB hC ⟨a1, a2⟩ (by omega) (fun y s' => ⟨by omega, fun _ e1 => ⟨by omega, fun _ e2 => ?_⟩⟩) (fun y s' => ⟨by omega, fun _ e1 => ⟨by omega, fun _ e2 => ?_⟩⟩)⟩
  · have : i = 6144 := by omega
    subst this
    rw [e]; exact hp s
  · subst e1 e2; exact (ih s' (by omega)).1 y
  · subst e1 e2; exact (ih s' (by omega)).2 (fun w => w y)
def rdNth (p : Int → Prop) (i : Int) : Int → Prop := fun k => p k ∧ cntI p k.toNat = i
noncomputable def rdAsk (g kk a b c : Int → Int) (nc x i : Int) : Int := if 0 ≤ x ∧ x < nc then (if 0 ≤ i ∧ fstI (rdNth (rdHq g kk a b c x) i) 6144 < 6144 then fstI (rdNth (rdHq g kk a b c x) i) 6144 else -2) else -1
theorem T51_ask {post : Int → (Int → Int) → Prop} {h : Int → Int} {x i : Int} (hi : zR i) (hC : rdC kk a b c nc) (hp : ∀ h', post (rdAsk g kk a b c nc x i) h') : wpX51_ask post g kk a b c nc h x i := by
  unfold wpX51_ask
  unfold rdAsk at hp
  refine T51_inB (fun a1 a2 => ?_) (fun z => by rw [if_neg z] at hp; exact hp h)
  rw [if_pos ⟨a1, a2⟩] at hp
  by_cases hi0 : i < 0
  · refine ⟨1, ?_⟩
    rw [wX51_ask_18]
    rw [if_neg (by omega)] at hp
    exact ⟨fun z => hp h, fun z => ⟨fun _ => hp h, fun y => absurd hi0 y⟩⟩
  · refine wl3 (fun n l k s => wX51_ask_18 _ _ x i g kk a b c n l k s) (fun l k s => (0 ≤ k ∧ k ≤ 6144) ∧ 0 ≤ l ∧ l = i - cntI (rdHq g kk a b c x) k.toNat ∧ ∀ j, 0 ≤ j → j < k → ¬ rdNth (rdHq g kk a b c x) i j) (fun l k s => (6144 - k).toNat) ?_ i 0 h ⟨by omega, by omega, by simp [cntI], fun j x y => by omega⟩
    rintro l k s ⟨hk, hl, e, hno⟩ n ih
    have hb := cntI_b (rdHq g kk a b c x) k.toNat
    rw [wX51_ask_18]
    refine ⟨fun z => ?_, fun z => ⟨fun y => absurd y hi0, fun _ => T51_isHeldB hC ⟨a1, a2⟩ (by omega) (fun y s' => ⟨fun w => ?_, fun w => ⟨by omega, fun _ e1 => ⟨by omega, fun _ e2 => ?_⟩⟩⟩) (fun y s' => ⟨by omega, fun _ e2 => ?_⟩)⟩⟩
    · have hk' : k = 6144 := by omega
      subst hk'
      have : fstI (rdNth (rdHq g kk a b c x) i) 6144 = 6144 := fstI_u (by omega) (by omega) (fun w => by omega) hno
      rw [if_neg (by omega)] at hp
      exact hp s
    · have : fstI (rdNth (rdHq g kk a b c x) i) 6144 = k := fstI_u hk.1 (by omega) (fun _ => ⟨y, by omega⟩) hno
      rw [this, if_pos (by omega)] at hp
      exact hp s'
    · subst e1 e2
      refine ih _ _ _ ⟨by omega, by omega, ?_, fun j j0 j1 => ?_⟩ (by omega)
      · rw [cntI_t hk.1 y]; omega
      · by_cases hj : j = k
        · subst hj; intro w; have := w.2; omega
        · exact hno j j0 (by omega)
    · subst e2
      refine ih _ _ _ ⟨by omega, by omega, ?_, fun j j0 j1 => ?_⟩ (by omega)
      · rw [cntI_f hk.1 (fun w => w y)]; omega
      · by_cases hj : j = k
        · subst hj; intro w; exact w.1 y
        · exact hno j j0 (by omega)
noncomputable def rdWithin (g kk a b c : Int → Int) (nc x y : Int) : Int := if (0 ≤ x ∧ x < nc) ∧ (0 ≤ y ∧ y < nc) then pif (∀ q, 0 ≤ q → q < 6144 → rdHq g kk a b c x q → rdHq g kk a b c y q) 1 0 else -1
theorem T51_within {post : Int → (Int → Int) → Prop} {h : Int → Int} {x y : Int} (hC : rdC kk a b c nc) (hp : ∀ h', post (rdWithin g kk a b c nc x y) h') : wpX51_within post g kk a b c nc h x y := by
  have hn := hC.1
  unfold wpX51_within
  unfold rdWithin at hp
  refine T51_inB (fun a1 a2 => T51_inB (fun b1 b2 => ?_) (fun z => by rw [if_neg (fun w => z w.2)] at hp; exact hp h)) (fun z => by rw [if_neg (fun w => z w.1)] at hp; exact hp h)
  rw [if_pos ⟨⟨a1, a2⟩, b1, b2⟩] at hp
  refine zl2 (fun n k s => wX51_within_26 _ _ x y g kk a b c nc n k s) (fun k s => 0 ≤ k ∧ ∀ q, 0 ≤ q → q < k → rdHq g kk a b c x q → rdHq g kk a b c y q) 6144 ?_ ⟨by omega, fun q u v => by omega⟩ (by decide)
  rintro n k s ⟨hk, hno⟩ hN ih
  rw [wX51_within_26]
  refine ⟨fun z => ?_, fun z => T51_look hC (by omega) ⟨by omega, by omega⟩ (fun s' hh => ?_)⟩
  · rw [pif_t (fun q u v => hno q u (by omega))] at hp
    exact hp s
  · have ex := hh x a1 a2
    have ey := hh y b1 b2
    rw [ex, ey]
    refine ⟨by omega, fun w => ⟨by omega, fun _ e1 => ?_⟩, fun w => ⟨by omega, fun v => ?_, fun v => ⟨by omega, fun _ e1 => ?_⟩⟩⟩
    · subst e1
      refine ih _ (by omega) ⟨by omega, fun q u v t => ?_⟩
      by_cases hj : q = k
      · subst hj; exact absurd w t
      · exact hno q u (by omega) t
    · rw [pif_f (fun t => t k (by omega) (by omega) w v)] at hp
      exact hp s'
    · subst e1
      refine ih _ (by omega) ⟨by omega, fun q u v' t => ?_⟩
      by_cases hj : q = k
      · subst hj; exact v
      · exact hno q u (by omega) t
noncomputable def rdDecides (g kk a b c rk dn wn : Int → Int) (nr x : Int) : Int := if 0 ≤ x ∧ x < nr then cntI (fun q => rdDec g kk a b c rk dn wn nr q (-1) = x) 6144 else -1
theorem T51_decides {post : Int → (Int → Int) → Prop} {h : Int → Int} {x : Int} (hI : rdI kk a b c nc rk dn wn nr) (hp : ∀ h', post (rdDecides g kk a b c rk dn wn nr x) h') : wpX51_decides post g kk a b c nc rk dn wn nr h x := by
  unfold wpX51_decides
  unfold rdDecides at hp
  refine T51_inB (fun a1 a2 => ?_) (fun z => by rw [if_neg z] at hp; exact hp h)
  rw [if_pos ⟨a1, a2⟩] at hp
  refine zcount _ (fun q => rdDec g kk a b c rk dn wn nr q (-1) = x) 6144 (by decide) ?_ h
  intro n m i s e i0 i1 m0 m1 ih
  rw [wX51_decides_17]
  refine ⟨fun z => ?_, fun z => T51_decider hI (by omega) (fun s' _ => ⟨fun y => ⟨by omega, fun _ e1 => ⟨by omega, fun _ e2 => ?_⟩⟩, fun y => ⟨by omega, fun _ e1 => ⟨by omega, fun _ e2 => ?_⟩⟩⟩)⟩
  · have : i = 6144 := by omega
    subst this
    rw [e]; exact hp s
  · subst e1 e2; exact (ih s' (by omega)).1 y
  · subst e1 e2; exact (ih s' (by omega)).2 y
noncomputable def rdSees (g kk a b c rk dn wn : Int → Int) (nr p v : Int) : Int := if (0 ≤ p ∧ p < 8) ∧ (0 ≤ v ∧ v < 8) then cntI (fun q => q / 768 = p ∧ q % 8 = v ∧ rdAl g kk a b c rk dn wn nr q (-1)) 6144 else -1
theorem T51_sees {post : Int → (Int → Int) → Prop} {h : Int → Int} {p v : Int} (hI : rdI kk a b c nc rk dn wn nr) (hp : ∀ h', post (rdSees g kk a b c rk dn wn nr p v) h') : wpX51_sees post g kk a b c nc rk dn wn nr h p v := by
  unfold wpX51_sees
  unfold rdSees at hp
  refine T51_inB (fun a1 a2 => T51_inB (fun b1 b2 => ?_) (fun z => by rw [if_neg (fun w => z w.2)] at hp; exact hp h)) (fun z => by rw [if_neg (fun w => z w.1)] at hp; exact hp h)
  rw [if_pos ⟨⟨a1, a2⟩, b1, b2⟩] at hp
  refine zcount _ (fun q => q / 768 = p ∧ q % 8 = v ∧ rdAl g kk a b c rk dn wn nr q (-1)) 6144 (by decide) ?_ h
  intro n m i s e i0 i1 m0 m1 ih
  rw [wX51_sees_25]
  unfold wpX51_personOf wpX51_versionOf
  refine ⟨fun z => ?_, fun z => ⟨by omega, fun y => ⟨by omega, fun y2 => T51_isAllowed hI (by omega) (fun w s' => ⟨fun t => absurd t (by decide), fun _ => ⟨by omega, fun _ e1 => ⟨by omega, fun _ e2 => ?_⟩⟩⟩) (fun w s' => ⟨fun _ => ⟨by omega, fun _ e1 => ⟨by omega, fun _ e2 => ?_⟩⟩, fun t => absurd rfl t⟩), fun y2 => ⟨by omega, fun _ e1 => ⟨by omega, fun _ e2 => ?_⟩⟩⟩, fun y => ⟨by omega, fun _ e1 => ⟨by omega, fun _ e2 => ?_⟩⟩⟩⟩
  · have : i = 6144 := by omega
    subst this
    rw [e]; exact hp s
  · subst e1 e2; exact (ih s' (by omega)).1 ⟨y, y2, w⟩
  · subst e1 e2; exact (ih s' (by omega)).2 (fun t => w t.2.2)
  · subst e1 e2; exact (ih s (by omega)).2 (fun t => y2 t.2.1)
  · subst e1 e2; exact (ih s (by omega)).2 (fun t => y t.1)
noncomputable def rdMatters (g kk a b c rk dn wn : Int → Int) (nr x : Int) : Int := if 0 ≤ x ∧ x < nr then cntI (fun q => ¬ (rdAl g kk a b c rk dn wn nr q (-1) ↔ rdAl g kk a b c rk dn wn nr q x)) 6144 else -1
theorem T51_matters {post : Int → (Int → Int) → Prop} {h : Int → Int} {x : Int} (hI : rdI kk a b c nc rk dn wn nr) (hp : ∀ h', post (rdMatters g kk a b c rk dn wn nr x) h') : wpX51_matters post g kk a b c nc rk dn wn nr h x := by
  unfold wpX51_matters
  unfold rdMatters at hp
  refine T51_inB (fun a1 a2 => ?_) (fun z => by rw [if_neg z] at hp; exact hp h)
  rw [if_pos ⟨a1, a2⟩] at hp
  refine zcount _ (fun q => ¬ (rdAl g kk a b c rk dn wn nr q (-1) ↔ rdAl g kk a b c rk dn wn nr q x)) 6144 (by decide) ?_ h
  intro n m i s e i0 i1 m0 m1 ih
  rw [wX51_matters_17]
  refine ⟨fun z => ?_, fun z => T51_isAllowed hI (by omega) (fun w s1 => T51_isAllowed hI (by omega) (fun w2 s' => ⟨fun _ => ⟨by omega, fun _ e1 => ⟨by omega, fun _ e2 => ?_⟩⟩, fun t => absurd rfl t⟩) (fun w2 s' => ⟨fun t => absurd t (by decide), fun _ => ⟨by omega, fun _ e1 => ⟨by omega, fun _ e2 => ?_⟩⟩⟩)) (fun w s1 => T51_isAllowed hI (by omega) (fun w2 s' => ⟨fun t => absurd t (by decide), fun _ => ⟨by omega, fun _ e1 => ⟨by omega, fun _ e2 => ?_⟩⟩⟩) (fun w2 s' => ⟨fun _ => ⟨by omega, fun _ e1 => ⟨by omega, fun _ e2 => ?_⟩⟩, fun t => absurd rfl t⟩))⟩
  · have : i = 6144 := by omega
    subst this
    rw [e]; exact hp s
  · subst e1 e2; exact (ih s' (by omega)).2 (fun t => t (by simp only [w, w2]))
  · subst e1 e2; exact (ih s' (by omega)).1 (fun t => w2 (t.mp w))
  · subst e1 e2; exact (ih s' (by omega)).1 (fun t => w (t.mpr w2))
  · subst e1 e2; exact (ih s' (by omega)).2 (fun t => t (by simp only [w, w2]))
def rdWd (g kk a b c rk dn wn : Int → Int) (nr q x d y : Int) : Prop := ¬ rdH g kk a b c q y = 0 ∧ (rdDec g kk a b c rk dn wn nr q (-1) < 0 ∨ x < rk (rdDec g kk a b c rk dn wn nr q (-1)) ∨ (x = rk (rdDec g kk a b c rk dn wn nr q (-1)) ∧ ¬ d = 0 ∧ dn (rdDec g kk a b c rk dn wn nr q (-1)) = 0))
theorem T51_wouldDecide {post : Int → (Int → Int) → Prop} {h : Int → Int} {q x d y : Int} (hI : rdI kk a b c nc rk dn wn nr) (hq : 0 ≤ q ∧ q < 6144) (hy : 0 ≤ y ∧ y < nc) (h1 : rdWd g kk a b c rk dn wn nr q x d y → ∀ h', post 1 h') (h0 : ¬ rdWd g kk a b c rk dn wn nr q x d y → ∀ h', post 0 h') : wpX51_wouldDecide post g kk a b c nc rk dn wn nr h q x d y := by
  have hb := rdDec_b (g := g) hI q (-1)
  have hr := hI.2.1
  have hn := hI.1.1
  unfold wpX51_wouldDecide
  unfold rdWd at h1 h0
  refine T51_decider hI hq (fun h' hh => ?_)
  have e := hh y hy.1 hy.2
  rw [e]
  generalize rdDec g kk a b c rk dn wn nr q (-1) = D at *
  refine ⟨by omega, fun z => h0 (fun w => w.1 z) h', fun z => ⟨fun z1 => h1 ⟨z, Or.inl z1⟩ h', fun z1 => ⟨by omega, fun z2 => h1 ⟨z, Or.inr (Or.inl z2)⟩ h', fun z2 => ⟨fun z3 => ⟨fun z4 => h0 (by omega) h', fun z4 => ⟨fun z5 => h1 ⟨z, Or.inr (Or.inr ⟨z3, z4, z5⟩)⟩ h', fun z5 => h0 (by omega) h'⟩⟩, fun z3 => h0 (by omega) h'⟩⟩⟩⟩
def rdIdl (g kk a b c rk dn wn : Int → Int) (nr d y x : Int) : Prop := ∀ q, 0 ≤ q → q < 6144 → ¬ rdWd g kk a b c rk dn wn nr q x d y
noncomputable def rdIdle (g kk a b c rk dn wn : Int → Int) (nc nr d y : Int) : Int := if 0 ≤ y ∧ y < nc then fstI (rdIdl g kk a b c rk dn wn nr d y) 10 else -1
theorem T51_idle_in {K : Int → (Int → Int) → Prop} {h : Int → Int} {x d y : Int} (hI : rdI kk a b c nc rk dn wn nr) (hy : 0 ≤ y ∧ y < nc) (h1 : ¬ rdIdl g kk a b c rk dn wn nr d y x → ∀ h', K 1 h') (h0 : rdIdl g kk a b c rk dn wn nr d y x → ∀ h', K 0 h') : ∃ fu, wX51_idle_27 K d y x g kk a b c nc rk dn wn nr fu 0 0 h := by
  refine wl3 (fun n v k s => wX51_idle_27 K d y x g kk a b c nc rk dn wn nr n v k s) (fun v k s => (0 ≤ k ∧ k ≤ 6144) ∧ ((v = 0 ∧ ∀ q, 0 ≤ q → q < k → ¬ rdWd g kk a b c rk dn wn nr q x d y) ∨ (v = 1 ∧ ¬ rdIdl g kk a b c rk dn wn nr d y x))) (fun v k s => (6144 - k).toNat) ?_ 0 0 h ⟨by omega, Or.inl ⟨rfl, fun q u v => by omega⟩⟩
  rintro v k s ⟨hk, hv⟩ n ih
  rw [wX51_idle_27]
  refine ⟨fun z => ?_, fun z => ⟨fun w => ?_, fun w => ?_⟩⟩
  · rcases hv with ⟨rfl, hv⟩ | ⟨rfl, hv⟩
    · exact h0 (fun q u v => hv q u (by omega)) s
    · exact h1 hv s
  · have hv' : ∀ q, 0 ≤ q → q < k → ¬ rdWd g kk a b c rk dn wn nr q x d y := by
      rcases hv with ⟨_, hv⟩ | ⟨e, hv⟩
      · exact hv
      · omega
    refine T51_wouldDecide hI (by omega) hy (fun t s' => ⟨by omega, fun _ e1 => ?_⟩) (fun t s' => ⟨by omega, fun _ e1 => ?_⟩)
    · subst e1
      exact ih _ _ _ ⟨by omega, Or.inr ⟨rfl, fun u => u k (by omega) (by omega) t⟩⟩ (by omega)
    · subst e1
      refine ih _ _ _ ⟨by omega, Or.inl ⟨rfl, fun q u v' => ?_⟩⟩ (by omega)
      by_cases hj : q = k
      · subst hj; exact t
      · exact hv' q u (by omega)
  · rcases hv with ⟨e, hv⟩ | ⟨rfl, hv⟩
    · exact absurd e w
    · exact h1 hv s
theorem T51_idle {post : Int → (Int → Int) → Prop} {h : Int → Int} {d y : Int} (hI : rdI kk a b c nc rk dn wn nr) (hp : ∀ h', post (rdIdle g kk a b c rk dn wn nc nr d y) h') : wpX51_idle post g kk a b c nc rk dn wn nr h d y := by
  unfold wpX51_idle
  unfold rdIdle at hp
  refine T51_inB (fun a1 a2 => ?_) (fun z => by rw [if_neg z] at hp; exact hp h)
  rw [if_pos ⟨a1, a2⟩] at hp
  refine zl2 (fun n k s => wX51_idle_15 _ _ d y g kk a b c nc rk dn wn nr n k s) (fun k s => 0 ≤ k ∧ ∀ j, 0 ≤ j → j < k → ¬ rdIdl g kk a b c rk dn wn nr d y j) 10 ?_ ⟨by omega, fun q u v => by omega⟩ (by decide)
  rintro n k s ⟨hk, hno⟩ hN ih
  rw [wX51_idle_15]
  refine ⟨fun z => ?_, fun z => T51_idle_in hI ⟨a1, a2⟩ (fun w s' => ⟨fun t => absurd t (by decide), fun _ => ⟨by omega, fun _ e1 => ?_⟩⟩) (fun w s' => ⟨fun _ => ?_, fun t => absurd rfl t⟩)⟩
  · have : k = 10 := by omega
    subst this
    have : fstI (rdIdl g kk a b c rk dn wn nr d y) 10 = 10 := fstI_u (by omega) (by omega) (fun w => by omega) hno
    rw [this] at hp; exact hp s
  · subst e1
    refine ih _ (by omega) ⟨by omega, fun j u v => ?_⟩
    by_cases hj : j = k
    · subst hj; exact w
    · exact hno j u (by omega)
  · have : fstI (rdIdl g kk a b c rk dn wn nr d y) 10 = k := fstI_u (by omega) (by omega) (fun _ => w) hno
    rw [this] at hp; exact hp s'
def rdApt (g kk a b c rk dn wn : Int → Int) (nr p o k : Int) : Prop := ¬ (rdAl g kk a b c rk dn wn nr (768 * p + k) (-1) ↔ rdAl g kk a b c rk dn wn nr (768 * o + k) (-1))
noncomputable def rdApart (g kk a b c rk dn wn : Int → Int) (nr p o : Int) : Int := if (0 ≤ p ∧ p < 8) ∧ (0 ≤ o ∧ o < 8) then (if fstI (rdApt g kk a b c rk dn wn nr p o) 768 < 768 then 768 * p + fstI (rdApt g kk a b c rk dn wn nr p o) 768 else -2) else -1
theorem T51_apart {post : Int → (Int → Int) → Prop} {h : Int → Int} {p o : Int} (hI : rdI kk a b c nc rk dn wn nr) (hp : ∀ h', post (rdApart g kk a b c rk dn wn nr p o) h') : wpX51_apart post g kk a b c nc rk dn wn nr h p o := by
  unfold wpX51_apart
  unfold rdApart at hp
  refine T51_inB (fun a1 a2 => T51_inB (fun b1 b2 => ?_) (fun z => by rw [if_neg (fun w => z w.2)] at hp; exact hp h)) (fun z => by rw [if_neg (fun w => z w.1)] at hp; exact hp h)
  rw [if_pos ⟨⟨a1, a2⟩, b1, b2⟩] at hp
  refine zl2 (fun n k s => wX51_apart_22 _ _ p o g kk a b c nc rk dn wn nr n k s) (fun k s => 0 ≤ k ∧ ∀ j, 0 ≤ j → j < k → ¬ rdApt g kk a b c rk dn wn nr p o j) 768 ?_ ⟨by omega, fun q u v => by omega⟩ (by decide)
  rintro n k s ⟨hk, hno⟩ hN ih
  rw [wX51_apart_22]
  have same : k < 768 → ∀ s', ¬ rdApt g kk a b c rk dn wn nr p o k → (zR (k + 1) ∧ ∀ x : Int, x = k + 1 → wX51_apart_22 (fun x3_21 f_holds_22 => zR (768 * p + x3_21) ∧ post (768 * p + x3_21) f_holds_22) (fun f_holds_27 => post (-2) f_holds_27) p o g kk a b c nc rk dn wn nr n x s') := by
    intro hlt s' w
    refine ⟨by omega, fun _ e1 => ?_⟩
    subst e1
    refine ih _ (by omega) ⟨by omega, fun j u v => ?_⟩
    by_cases hj : j = k
    · subst hj; exact w
    · exact hno j u (by omega)
  have diff : k < 768 → ∀ s', rdApt g kk a b c rk dn wn nr p o k → (zR (768 * p + k) ∧ post (768 * p + k) s') := by
    intro hlt s' w
    have : fstI (rdApt g kk a b c rk dn wn nr p o) 768 = k := fstI_u (by omega) (by omega) (fun _ => w) hno
    rw [this, if_pos hlt] at hp
    exact ⟨by omega, hp s'⟩
  unfold rdApt at same diff
  refine ⟨fun z => ?_, fun z => ⟨by omega, T51_isAllowed hI (by omega) (fun w s1 => ⟨by omega, T51_isAllowed hI (by omega) (fun w2 s' => ⟨fun _ => same (by omega) s' (fun t => t (by simp only [w, w2])), fun t => absurd rfl t⟩) (fun w2 s' => ⟨fun t => absurd t (by decide), fun _ => diff (by omega) s' (fun t => w2 (t.mp w))⟩)⟩) (fun w s1 => ⟨by omega, T51_isAllowed hI (by omega) (fun w2 s' => ⟨fun t => absurd t (by decide), fun _ => diff (by omega) s' (fun t => w (t.mpr w2))⟩) (fun w2 s' => ⟨fun _ => same (by omega) s' (fun t => t (by simp only [w, w2])), fun t => absurd rfl t⟩)⟩)⟩⟩
  have hk' : k = 768 := by omega
  subst hk'
  have : fstI (rdApt g kk a b c rk dn wn nr p o) 768 = 768 := fstI_u (by omega) (by omega) (fun w => by omega) hno
  rw [if_neg (by omega)] at hp; exact hp s
noncomputable def rdAllowed (g kk a b c rk dn wn : Int → Int) (nr : Int) : Int := cntI (fun q => rdAl g kk a b c rk dn wn nr q (-1)) 6144
theorem T51_allowed {post : Int → (Int → Int) → Prop} {h : Int → Int} (hI : rdI kk a b c nc rk dn wn nr) (hp : ∀ h', post (rdAllowed g kk a b c rk dn wn nr) h') : wpX51_allowed post g kk a b c nc rk dn wn nr h := by
  unfold wpX51_allowed
  unfold rdAllowed at hp
  refine zcount _ (fun q => rdAl g kk a b c rk dn wn nr q (-1)) 6144 (by decide) ?_ h
  intro n m i s e i0 i1 m0 m1 ih
  rw [wX51_allowed_4]
  refine ⟨fun z => ?_, fun z => T51_isAllowed hI (by omega) (fun w s' => ⟨fun t => absurd t (by decide), fun _ => ⟨by omega, fun _ e1 => ⟨by omega, fun _ e2 => ?_⟩⟩⟩) (fun w s' => ⟨fun _ => ⟨by omega, fun _ e1 => ⟨by omega, fun _ e2 => ?_⟩⟩, fun t => absurd rfl t⟩)⟩
  · have : i = 6144 := by omega
    subst this
    rw [e]; exact hp s
  · subst e1 e2; exact (ih s' (by omega)).1 w
  · subst e1 e2; exact (ih s' (by omega)).2 w
end
