/-! RuleEngine (room RE): values, what passes; all cases, from the sets Fs part by part -/
noncomputable def caX (ln pt : Int → Int) (Fs : Int → Int → Prop) (P : Int → Prop) (r : Int) : Nat → (Int → Int) → List (Int → Int)
  | 0, v => pif (rePs ln pt P r v) [v] []
  | j + 1, v => if pt (20 * r + 4 * (ln r - (j + 1))) = 0 then caC (caX ln pt Fs P r j) (Fs (ln r - (j + 1))) (pt (20 * r + 4 * (ln r - (j + 1)) + 2)) (pt (20 * r + 4 * (ln r - (j + 1)) + 3)) 1024 (1024 * pt (20 * r + 4 * (ln r - (j + 1)) + 1)) v else caX ln pt Fs P r j v
/-- an item told a number that it does not have yet; and taken back -/
def rxBn (i a : Int) (v : Int → Int) : Int → Int := if i < 0 ∧ v (-1 - i) = -1 then updI v (-1 - i) a else v
def rxFl (i : Int) (v : Int → Int) : Int := if i < 0 ∧ v (-1 - i) = -1 then 1 else 0
def rxUn (f i : Int) (v : Int → Int) : Int → Int := if f = 0 then v else updI v (-1 - i) (-1)
theorem rxUn_v {x y a b : Int} {v : Int → Int} : rxUn (rxFl y (rxBn x a v)) y (rxUn (rxFl x v) x (rxBn y b (rxBn x a v))) = v := funext fun i => by
  unfold rxUn rxFl rxBn
  by_cases h1 : x < 0 ∧ v (-1 - x) = -1
  · rw [if_pos h1, if_pos h1, if_neg (show ¬ (1 : Int) = 0 by decide)]
    by_cases h2 : y < 0 ∧ updI v (-1 - x) a (-1 - y) = -1
    · rw [if_pos h2, if_pos h2, if_neg (show ¬ (1 : Int) = 0 by decide)]
      simp only [updI_e]
      rw [updI_e] at h2
      by_cases e1 : i = -1 - y
      · rw [if_pos e1, e1]
        by_cases e2 : -1 - y = -1 - x
        · rw [e2]; exact h1.2.symm
        · rw [if_neg e2] at h2; exact h2.2.symm
      · rw [if_neg e1, if_neg e1]
        by_cases e2 : i = -1 - x
        · rw [if_pos e2, e2]; exact h1.2.symm
        · rw [if_neg e2, if_neg e2]
    · rw [if_neg h2, if_neg h2, if_pos rfl]
      simp only [updI_e]
      by_cases e2 : i = -1 - x
      · rw [if_pos e2, e2]; exact h1.2.symm
      · rw [if_neg e2, if_neg e2]
  · rw [if_neg h1, if_neg h1, if_pos rfl]
    by_cases h2 : y < 0 ∧ v (-1 - y) = -1
    · rw [if_pos h2, if_pos h2, if_neg (show ¬ (1 : Int) = 0 by decide)]
      simp only [updI_e]
      by_cases e1 : i = -1 - y
      · rw [if_pos e1, e1]; exact h2.2.symm
      · rw [if_neg e1, if_neg e1]
    · rw [if_neg h2, if_neg h2, if_pos rfl]
theorem updI_id {f : Int → Int} {i : Int} : updI f i (f i) = f := funext fun j => by
  rw [updI_e]
  by_cases z : j = i
  · rw [if_pos z, z]
  · rw [if_neg z]
theorem reB1_i {i a : Int} {v : Int → Int} (ha : 0 ≤ a) : reB1 i a v = if reVl (rxBn i a v) i = a then some (rxBn i a v) else none := by
  by_cases h : i < 0
  · by_cases q : v (-1 - i) = -1
    · have e : rxBn i a v = updI v (-1 - i) a := if_pos ⟨h, q⟩
      rw [e]
      unfold reB1 reVl
      rw [if_pos h, if_pos (Or.inl q), if_pos h, updI_s, if_pos rfl]
    · have e : rxBn i a v = v := if_neg (fun z => q z.2)
      rw [e]
      unfold reB1 reVl
      rw [if_pos h, if_pos h]
      by_cases q2 : v (-1 - i) = a
      · rw [if_pos (Or.inr q2), if_pos q2, ← q2, updI_id]
      · rw [if_neg (fun z => z.elim q q2), if_neg q2]
  · have e : rxBn i a v = v := if_neg (fun z => h z.1)
    rw [e]
    unfold reB1 reVl
    rw [if_neg h, if_neg h]
theorem rxBn_k {x y a b : Int} {v : Int → Int} (ha : 0 ≤ a) : reVl (rxBn y b (rxBn x a v)) x = reVl (rxBn x a v) x := by
  unfold reVl
  by_cases h : x < 0
  · rw [if_pos h, if_pos h]
    have nb : rxBn x a v (-1 - x) ≠ -1 := by
      unfold rxBn
      by_cases q : v (-1 - x) = -1
      · rw [if_pos ⟨h, q⟩, updI_s]; omega
      · rw [if_neg (fun z => q z.2)]; exact q
    generalize rxBn x a v = w at nb
    unfold rxBn
    by_cases q : y < 0 ∧ w (-1 - y) = -1
    · rw [if_pos q, updI_n (fun e => nb (by rw [e]; exact q.2))]
    · rw [if_neg q]
  · rw [if_neg h, if_neg h]
theorem reBc_i {x y c : Int} {v : Int → Int} (hc : 0 ≤ c) : reBc x y c v = if reVl (rxBn y (c % 32) (rxBn x (c / 32 % 32) v)) x = c / 32 % 32 ∧ reVl (rxBn y (c % 32) (rxBn x (c / 32 % 32) v)) y = c % 32 then some (rxBn y (c % 32) (rxBn x (c / 32 % 32) v)) else none := by
  unfold reBc
  rw [rxBn_k (by omega), reB1_i (show 0 ≤ c / 32 % 32 by omega)]
  by_cases h : reVl (rxBn x (c / 32 % 32) v) x = c / 32 % 32
  · rw [if_pos h, Option.bind_some, reB1_i (show 0 ≤ c % 32 by omega)]
    by_cases q : reVl (rxBn y (c % 32) (rxBn x (c / 32 % 32) v)) y = c % 32
    · rw [if_pos q, if_pos ⟨h, q⟩]
    · rw [if_neg q, if_neg (fun z => q z.2)]
  · rw [if_neg h, if_neg (fun z => h z.1)]; rfl
theorem reBc_no {x y c : Int} {v : Int → Int} (h0 : 0 ≤ reVl v x) (h : ¬ reVl v x = c / 32 % 32) : reBc x y c v = none := by
  unfold reBc reB1
  unfold reVl at h0 h
  by_cases z : x < 0
  · rw [if_pos z] at h0 h ⊢
    rw [if_neg (fun w => w.elim (fun e => by omega) h)]; rfl
  · rw [if_neg z] at h0 h ⊢
    rw [if_neg h]; rfl
theorem caC_sk {G : (Int → Int) → List (Int → Int)} {F : Int → Prop} {x y E : Int} {v : Int → Int} : ∀ (d : Nat) (c : Int), c + d ≤ E → (∀ i, c ≤ i → i < c + d → F i → reBc x y i v = none) → caC G F x y (E - c).toNat c v = caC G F x y (E - (c + d)).toNat (c + d) v
  | 0, c, _, _ => by rw [show c + ((0 : Nat) : Int) = c by omega]
  | d + 1, c, hE, h => by
    have ih := caC_sk (G := G) (F := F) (x := x) (y := y) (E := E) (v := v) d (c + 1) (by omega) (fun i i0 i1 => h i (by omega) (by omega))
    rw [show (E - c).toNat = (E - (c + 1)).toNat + 1 by omega, caC, ih, show c + 1 + (d : Int) = c + ((d + 1 : Nat) : Int) by omega]
    by_cases z : F c
    · rw [pif_t z, h c (Int.le_refl _) (by omega) z]; rfl
    · rw [pif_f z]; rfl
theorem caC_to {G : (Int → Int) → List (Int → Int)} {F : Int → Prop} {x y E c c' : Int} {v : Int → Int} (h1 : c ≤ c') (h2 : c' ≤ E) (h : ∀ i, c ≤ i → i < c' → F i → reBc x y i v = none) : caC G F x y (E - c).toNat c v = caC G F x y (E - c').toNat c' v := by
  have := caC_sk (G := G) (F := F) (x := x) (y := y) (E := E) (v := v) (c' - c).toNat c (by omega) (fun i i0 i1 => h i i0 (by omega))
  rw [show c + ((c' - c).toNat : Int) = c' by omega] at this; exact this
theorem caC_nil {G : (Int → Int) → List (Int → Int)} {F : Int → Prop} {x y E c : Int} {v : Int → Int} (h : ∀ i, c ≤ i → i < E → F i → reBc x y i v = none) : caC G F x y (E - c).toNat c v = [] := by
  by_cases z : c ≤ E
  · rw [caC_to z (Int.le_refl _) h, show (E - E).toNat = 0 by omega]; rfl
  · rw [show (E - c).toNat = 0 by omega]; rfl
/-- what is told so far: the first k parts -/
def rxGd (pt : Int → Int) (r k : Int) (v : Int → Int) : Prop := (∀ i, 0 ≤ i → i < 6 → -1 ≤ v i ∧ v i < 32) ∧ ∀ j, 0 ≤ j → j < k → pt (20 * r + 4 * j) = 0 → 0 ≤ reVl v (pt (20 * r + 4 * j + 2)) ∧ 0 ≤ reVl v (pt (20 * r + 4 * j + 3))
theorem rxGd.v {pt : Int → Int} {r k it : Int} {v : Int → Int} (H : rxGd pt r k v) (hi : reIt it) : -1 ≤ reVl v it ∧ reVl v it < 32 := by
  unfold reIt at hi
  unfold reVl
  by_cases z : it < 0
  · rw [if_pos z]; exact H.1 _ (by omega) (by omega)
  · rw [if_neg z]; omega
theorem rxGd.b {ln pt : Int → Int} {r it : Int} {v : Int → Int} (H : rxGd pt r (ln r) v) (hi : reIt it) (hb : reBd ln pt r it) : 0 ≤ reVl v it ∧ reVl v it < 32 := by
  refine ⟨?_, (H.v hi).2⟩
  rcases hb with hb | ⟨j, hj, p0, e | e⟩
  · unfold reVl; rw [if_neg (by omega)]; exact hb
  · rw [← e]; exact (H.2 j hj.1 hj.2 p0).1
  · rw [← e]; exact (H.2 j hj.1 hj.2 p0).2
theorem rxBn_r {i a : Int} {v : Int → Int} (ha : 0 ≤ a ∧ a < 32) (h : ∀ i, 0 ≤ i → i < 6 → -1 ≤ v i ∧ v i < 32) : ∀ j, 0 ≤ j → j < 6 → -1 ≤ rxBn i a v j ∧ rxBn i a v j < 32 := fun j j0 j1 => by
  unfold rxBn
  by_cases q : i < 0 ∧ v (-1 - i) = -1
  · rw [if_pos q, updI_e]
    by_cases z : j = -1 - i
    · rw [if_pos z]; omega
    · rw [if_neg z]; exact h j j0 j1
  · rw [if_neg q]; exact h j j0 j1
theorem rxGd.n {ln pt : Int → Int} {r k c : Int} {v w : Int → Int} (H : rxGd pt r k v) (hc : 0 ≤ c) (e : w = rxBn (pt (20 * r + 4 * k + 3)) (c % 32) (rxBn (pt (20 * r + 4 * k + 2)) (c / 32 % 32) v)) (h1 : reVl w (pt (20 * r + 4 * k + 2)) = c / 32 % 32) (h2 : reVl w (pt (20 * r + 4 * k + 3)) = c % 32) : rxGd pt r (k + 1) w := by
  have hb : reBc (pt (20 * r + 4 * k + 2)) (pt (20 * r + 4 * k + 3)) c v = some w := by
    rw [reBc_i hc, ← e, if_pos ⟨h1, h2⟩]
  have kp := (reBc_v hc hb).2
  refine ⟨?_, fun j j0 j1 p0 => ?_⟩
  · rw [e]; exact rxBn_r (by omega) (rxBn_r (by omega) H.1)
  · by_cases z : j = k
    · rw [z]; omega
    · have := H.2 j j0 (by omega) p0
      rw [kp _ this.1, kp _ this.2]; exact this
section
variable {kd : Nat → Nat} {an : Nat → Nat} {ai : Nat → Int → Int} {al : Nat → Int → Int} {ar : Nat → Int → Option Nat} {mX35_said : Nat → Option Nat} {mX35_rules : Nat → Option Nat} {mX35_strata : Nat → Option Nat} {mX35_needs : Nat → Option Nat} {mX35_safe : Nat → Option Nat} {mX35_circle : Nat → Int} {mX35_known : Nat → Int} {mX35_holds : Nat → Option Nat} {mX35_rounds : Nat → Option Nat} {mX35_counts : Nat → Option Nat} {mX35_roundCount : Nat → Int} {mX35_last : Nat → Option Nat} {mX35_next : Nat → Option Nat} {mX35_values : Nat → Option Nat} {mX35_coming : Nat → Option Nat} {mX35_counting : Nat → Option Nat} {mX35_gathering : Nat → Option Nat} {mX35_together : Nat → Option Nat} {mX35_held : Nat → Option Nat} {mX35_work : Nat → Int} {mX35_large : Nat → Int} {mX83_head : Nat → Option Nat} {mX83_parts : Nat → Option Nat} {mX83_kind : Nat → Int} {mX83_variable : Nat → Int} {mX84_sort : Nat → Int} {mX84_name : Nat → Int} {mX84_x : Nat → Int} {mX84_y : Nat → Int} {mJ1_modCount : Nat → Int} {mJ2_elementData : Nat → Option Nat} {mJ2_size : Nat → Int} {mJ4_words : Nat → Option Nat} {mJ4_wordsInUse : Nat → Int} {mJ4_sizeIsSticky : Nat → Int} {sa : Nat → Nat} {A : Nat → Int → Nat} {g : Nat → Nat × Int} {hd ki fo ln pt sd st rn gv : Int → Int} {n r k v c s : Int} {o h l e e0 : Nat} {p : Int → Nat} {W : Int → Nat} {Lq : Int → Int} {Pq : Int → Int → Prop} {MC MS : Nat}
theorem CRE_free {post : (Nat → Int → Int) → Prop} (H : Lab rxK rxL kd an A g rxN) (rV : mX35_values (A 0 0) = some (A 5 0)) (hp : ∀ f, (∀ i, 0 ≤ i → i < 6 → f i = -1) → post (va_up ai (A 5 0) f)) : wpRE_X35_free post kd an ai mX35_values (A 0 0) := by
  have k5 := rx_kd H 5 0 (by decide) (by decide)
  have a5 := rx_an H 5 0 (by decide) (by decide) (by decide)
  unfold wpRE_X35_free
  refine wl2 (fun f k s => wRE_X35_free_2 _ (A 0 0) kd an mX35_values f k s) (fun k s => (0 ≤ k ∧ k ≤ 6) ∧ ∃ f, s = va_up ai (A 5 0) f ∧ ∀ i, 0 ≤ i → i < k → f i = -1) (fun k _ => (6 - k).toNat) ?_ 0 ai ⟨by omega, ai (A 5 0), (va_up_id rfl).symm, fun i i0 i1 => by omega⟩
  rintro k s ⟨hk, f, rfl, hf⟩ n ih
  rw [wRE_X35_free_2]
  refine ⟨fun z => hp f (fun i i0 i1 => hf i i0 (by omega)), fun z => kOn_of rV ⟨k5, by rw [a5]; exact ⟨hk.1, by show k < 6; omega⟩, fun s2 e1 => ⟨by omega, fun k2 e2 => ?_⟩⟩⟩
  rw [va_up_self, va_up_up] at e1
  rw [e1, e2]
  refine ih _ _ ⟨by omega, _, rfl, fun i i0 i1 => ?_⟩ (by omega)
  by_cases z2 : i = k
  · rw [z2, updI_s]
  · rw [updI_n z2]; exact hf i i0 (by omega)
theorem CRE_valueOf {post : Int → Prop} (H : Lab rxK rxL kd an A g rxN) (rV : mX35_values (A 0 0) = some (A 5 0)) (hi : reIt v) (hp : post (reVl (ai (A 5 0)) v)) : wpRE_X35_valueOf post kd an ai mX35_values (A 0 0) v := by
  have k5 := rx_kd H 5 0 (by decide) (by decide)
  have a5 := rx_an H 5 0 (by decide) (by decide) (by decide)
  unfold wpRE_X35_valueOf
  unfold reIt at hi
  unfold reVl at hp
  refine ⟨fun z => kOn_of rV ⟨k5, by rw [a5]; exact ⟨by omega, by show -1 - v < 6; omega⟩, by omega, ?_⟩, fun z => ?_⟩
  · rw [if_pos z] at hp; exact hp
  · rw [if_neg z] at hp; exact hp
theorem CRE_bind {post : Int → (Nat → Int → Int) → Prop} {f : Int → Int} (H : Lab rxK rxL kd an A g rxN) (rV : mX35_values (A 0 0) = some (A 5 0)) (hi : reIt v) (ev : ai (A 5 0) = f) (hp : ∀ ai', ai' = va_up ai (A 5 0) (rxBn v c f) → post (rxFl v f) ai') : wpRE_X35_bind post kd an ai mX35_values (A 0 0) v c := by
  have k5 := rx_kd H 5 0 (by decide) (by decide)
  have a5 := rx_an H 5 0 (by decide) (by decide) (by decide)
  have same : ¬ (v < 0 ∧ f (-1 - v) = -1) → post 0 ai := fun z => by
    have := hp ai (by unfold rxBn; rw [if_neg z, ← ev]; exact (va_up_id rfl).symm)
    unfold rxFl at this
    rw [if_neg z] at this; exact this
  unfold wpRE_X35_bind
  unfold reIt at hi
  refine ⟨fun z => same (fun w => by omega), fun z => kOn_of rV ⟨k5, by rw [a5]; exact ⟨by omega, by show -1 - v < 6; omega⟩, by omega, fun q ai' e => ?_, fun q => ?_⟩⟩
  · rw [ev] at q e
    have := hp ai' (by unfold rxBn; rw [if_pos ⟨by omega, q⟩]; exact e)
    unfold rxFl at this
    rw [if_pos ⟨by omega, q⟩] at this; exact this
  · rw [ev] at q
    exact same (fun w => q w.2)
theorem CRE_headOf {post : Int → Prop} (H : Lab rxK rxL kd an A g rxN) (rV : mX35_values (A 0 0) = some (A 5 0)) (R : rxRu kd an ar mX83_head mX83_parts mX83_kind mX83_variable mX84_sort mX84_name mX84_x mX84_y mJ2_elementData mJ2_size (sa 0) hd ki fo ln pt r o h l e p) (hx : reIt (hd (3 * r + 1))) (hy : reIt (hd (3 * r + 2))) (fc : reFc (hd (3 * r)) (reVl (ai (A 5 0)) (hd (3 * r + 1))) (reVl (ai (A 5 0)) (hd (3 * r + 2)))) (hp : post (reHe hd r (ai (A 5 0)))) : wpRE_X35_headOf post kd an ai mX35_values mX83_head mX84_name mX84_x mX84_y (A 0 0) (some o) := by
  obtain ⟨⟨a0, a1, _⟩, ⟨c1, c2, c3, c4, c5⟩, _⟩ := R
  unfold wpRE_X35_headOf wpRE_X84_name wpRE_X84_x wpRE_X84_y
  refine kOn_some ⟨a0, kOn_of a1 ⟨c1, ?_⟩⟩
  rw [c3, c4, c5]
  exact CRE_valueOf H rV hx (CRE_valueOf H rV hy (CRE_code fc hp))
theorem CRE_passes {post : Int → Prop} {Ho : Int → Prop} {w : Nat} {L : Int} (I : reI hd ki fo ln pt n) (hr : 0 ≤ r ∧ r < n) (H : Lab rxK rxL kd an A g rxN) (rV : mX35_values (A 0 0) = some (A 5 0)) (rH : mX35_holds (A 0 0) = some (A 1 1)) (R : rxRu kd an ar mX83_head mX83_parts mX83_kind mX83_variable mX84_sort mX84_name mX84_x mX84_y mJ2_elementData mJ2_size (sa 0) hd ki fo ln pt r o h l e p) (B : bsI kd an al mJ4_words mJ4_wordsInUse (A 1 1) w L Ho) (hg : rxGd pt r (ln r) (ai (A 5 0))) (hs : reSf hd ki fo ln pt r) (h1 : rePs ln pt Ho r (ai (A 5 0)) → post 1) (h0 : ¬ rePs ln pt Ho r (ai (A 5 0)) → post 0) : wpRE_X35_passes post kd an ai al ar mX35_holds mX35_values mX83_parts mX84_sort mX84_name mX84_x mX84_y mJ2_elementData mJ2_size mJ4_words mJ4_wordsInUse (A 0 0) (some o) := by
  obtain ⟨_, _, hl, i4⟩ := I.2 r hr.1 hr.2
  obtain ⟨⟨a0, a1, a2, a3, a3'⟩, _, a4, a5, a6⟩ := id R
  have hsz := a5.2.1
  have k1 : kd (A 1 1) = 8 := rx_kd H 1 1 (by decide) (by decide)
  generalize hvs : ai (A 5 0) = vs at hg h1 h0
  unfold wpRE_X35_passes
  refine wl2 (fun f s k => wRE_X35_passes_4 _ (A 0 0) (some o) kd an ai al ar mX35_holds mX35_values mX83_parts mX84_sort mX84_name mX84_x mX84_y mJ2_elementData mJ2_size mJ4_words mJ4_wordsInUse f s k) (fun s k => (0 ≤ k ∧ k ≤ ln r) ∧ ((s = 0 ∧ ¬ rePs ln pt Ho r vs) ∨ (s = 1 ∧ ∀ j, 0 ≤ j → j < k → (pt (20 * r + 4 * j) = 1 → ¬ Ho (reCd (pt (20 * r + 4 * j + 1)) (reVl vs (pt (20 * r + 4 * j + 2))) (reVl vs (pt (20 * r + 4 * j + 3))))) ∧
  (pt (20 * r + 4 * j) = 2 → if pt (20 * r + 4 * j + 1) = 0 then reVl vs (pt (20 * r + 4 * j + 2)) < reVl vs (pt (20 * r + 4 * j + 3)) else if pt (20 * r + 4 * j + 1) = 1 then ¬ reVl vs (pt (20 * r + 4 * j + 2)) = reVl vs (pt (20 * r + 4 * j + 3)) else reVl vs (pt (20 * r + 4 * j + 3)) = reVl vs (pt (20 * r + 4 * j + 2)) + 1)))) (fun _ k => (ln r - k).toNat) ?_ 1 0 ⟨by omega, Or.inr ⟨rfl, fun j j0 j1 => by omega⟩⟩
  rintro s k ⟨hk, hs1⟩ f ih
  rw [wRE_X35_passes_4]
  unfold wpRE_J2_size
  refine kOn_some ⟨a0, kOn_of a2 ⟨a4, ?_⟩⟩
  rw [hsz]
  refine ⟨fun z => ?_, fun z => CRE_lget a5 hk.1 (by omega) (kOn_some ?_)⟩
  · rcases hs1 with ⟨e, y⟩ | ⟨e, q⟩
    · rw [e]; exact ⟨Or.inl rfl, h0 y⟩
    · rw [e]; exact ⟨Or.inr rfl, h1 (fun j j0 j1 => q j j0 (by omega))⟩
  obtain ⟨b1, b2, b3, b4, b5⟩ := a6 k hk.1 (by omega)
  obtain ⟨p1, p2, p3, p4⟩ := i4 k hk.1 (by omega)
  unfold wpRE_X84_x wpRE_X84_y wpRE_X84_sort wpRE_X84_name
  rw [b2, b3, b4, b5]
  have vX := hg.v p3
  have vY := hg.v p4
  refine ⟨b1, CRE_valueOf H rV p3 (CRE_valueOf H rV p4 ?_)⟩
  rw [hvs]
  generalize eX : reVl vs (pt (20 * r + 4 * k + 2)) = X at vX
  generalize eY : reVl vs (pt (20 * r + 4 * k + 3)) = Y at vY
  have bad : ¬ ((pt (20 * r + 4 * k) = 1 → ¬ Ho (reCd (pt (20 * r + 4 * k + 1)) X Y)) ∧ (pt (20 * r + 4 * k) = 2 → if pt (20 * r + 4 * k + 1) = 0 then X < Y else if pt (20 * r + 4 * k + 1) = 1 then ¬ X = Y else Y = X + 1)) → ∀ s2 : Int, s2 = zand s 0 → zR (k + 1) ∧ ∀ k2 : Int, k2 = k + 1 → wRE_X35_passes_4 (fun (x2_75 : Int) => (x2_75 = 0 ∨ x2_75 = 1) ∧ ((post x2_75))) (A 0 0) (some o) kd an ai al ar mX35_holds mX35_values mX83_parts mX84_sort mX84_name mX84_x mX84_y mJ2_elementData mJ2_size mJ4_words mJ4_wordsInUse f s2 k2 := fun z s2 e2 => ⟨by omega, fun k2 ek => by
    have z0 : s2 = 0 := by
      rw [e2]
      rcases hs1 with ⟨e, _⟩ | ⟨e, _⟩
      · rw [e]; decide
      · rw [e]; decide
    rw [z0, ek]
    refine ih _ _ ⟨by omega, Or.inl ⟨rfl, fun q => z ?_⟩⟩ (by omega)
    have := q k hk.1 (by omega)
    rw [eX, eY] at this; exact this⟩
  have good : ((pt (20 * r + 4 * k) = 1 → ¬ Ho (reCd (pt (20 * r + 4 * k + 1)) X Y)) ∧ (pt (20 * r + 4 * k) = 2 → if pt (20 * r + 4 * k + 1) = 0 then X < Y else if pt (20 * r + 4 * k + 1) = 1 then ¬ X = Y else Y = X + 1)) → ∀ s2 : Int, s2 = s → zR (k + 1) ∧ ∀ k2 : Int, k2 = k + 1 → wRE_X35_passes_4 (fun (x2_75 : Int) => (x2_75 = 0 ∨ x2_75 = 1) ∧ ((post x2_75))) (A 0 0) (some o) kd an ai al ar mX35_holds mX35_values mX83_parts mX84_sort mX84_name mX84_x mX84_y mJ2_elementData mJ2_size mJ4_words mJ4_wordsInUse f s2 k2 := fun z s2 e2 => ⟨by omega, fun k2 ek => by
    rw [e2, ek]
    refine ih _ _ ⟨by omega, hs1.elim Or.inl (fun ⟨e, q⟩ => Or.inr ⟨e, fun j j0 j1 => ?_⟩)⟩ (by omega)
    by_cases y : j = k
    · rw [y, eX, eY]; exact z
    · exact q j j0 (by omega)⟩
  have gs : ∀ s2 : Int, s2 = s % 2 → s2 = s := fun s2 e => by omega
  by_cases p0 : pt (20 * r + 4 * k) = 0
  · have so : rxSo pt (20 * r + 4 * k) = 0 := by unfold rxSo; rw [if_neg (by omega)]; exact p0
    rw [so]
    exact ⟨fun _ => good ⟨fun z => by omega, fun z => by omega⟩ s rfl, fun z => absurd rfl z⟩
  · by_cases p1' : pt (20 * r + 4 * k) = 1
    · have so : rxSo pt (20 * r + 4 * k) = 1 := by unfold rxSo; rw [if_neg (by omega)]; exact p1'
      have no : rxNm pt (20 * r + 4 * k) = pt (20 * r + 4 * k + 1) := by unfold rxNm; rw [if_neg (by omega)]
      rw [so, no]
      have sk := hs.2.2.2 k hk.1 (by omega) p0
      have bX := hg.b (ln := ln) p3 sk.1
      have bY := hg.b (ln := ln) p4 sk.2
      rw [eX] at bX
      rw [eY] at bY
      have fc : reFc (pt (20 * r + 4 * k + 1)) X Y := ⟨p2, bX, bY⟩
      have cb := reCd_b fc
      refine ⟨fun z => absurd z (by decide), fun _ => ⟨fun _ => CRE_code fc (kOn_of rH ⟨k1, CRE_getG B cb.1 cb.2 (fun q => ⟨fun z => absurd z (by decide), fun _ => bad (fun w => w.1 p1' q)⟩) (fun q => ⟨fun _ s2 e2 => good ⟨fun _ => q, fun z => by omega⟩ s2 (gs s2 e2), fun z => absurd rfl z⟩)⟩), fun z => absurd rfl z⟩⟩
    · have p2' : pt (20 * r + 4 * k) = 2 := by omega
      have so : rxSo pt (20 * r + 4 * k) = 2 + pt (20 * r + 4 * k + 1) := by unfold rxSo; rw [if_pos p2']
      rw [so]
      refine ⟨fun z => by omega, fun _ => ⟨fun z => by omega, fun _ => ⟨fun z => ?_, fun z => ⟨fun z2 => ?_, fun z2 => ⟨by omega, ?_⟩⟩⟩⟩⟩
      · rw [if_pos (show pt (20 * r + 4 * k + 1) = 0 by omega)] at bad good
        exact ⟨fun q => bad (fun w => by have := w.2 p2'; omega), fun q s2 e2 => good ⟨fun w => by omega, fun _ => by omega⟩ s2 (gs s2 e2)⟩
      · rw [if_neg (show ¬ pt (20 * r + 4 * k + 1) = 0 by omega), if_pos (show pt (20 * r + 4 * k + 1) = 1 by omega)] at bad good
        exact ⟨fun q => bad (fun w => w.2 p2' q), fun q s2 e2 => good ⟨fun w => by omega, fun _ => q⟩ s2 (gs s2 e2)⟩
      · rw [if_neg (show ¬ pt (20 * r + 4 * k + 1) = 0 by omega), if_neg (show ¬ pt (20 * r + 4 * k + 1) = 1 by omega)] at bad good
        exact ⟨fun q s2 e2 => good ⟨fun w => by omega, fun _ => q⟩ s2 (gs s2 e2), fun q => bad (fun w => q (w.2 p2'))⟩
end
