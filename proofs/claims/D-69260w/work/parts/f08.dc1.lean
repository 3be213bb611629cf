/-! RightDesk (room RD): the shape of its cells; what a condition is for an ask -/
/-- labels: 0 this, 1 groups, 2 order, 3 known, 4 lists (conditions, rules, sets), 5 asks, 6 bit sets (done, more, its, allowed, other, those of conditions), 7 their words -/
def rK : Nat → Nat
  | 0 => 1 | 1 => 11 | 2 => 11 | 3 => 12 | 4 => 9 | 5 => 14 | 6 => 10 | 7 => 13 | _ => 99
def rL : Nat → Nat
  | 1 => 8 | 2 => 20 | 3 => 60 | 5 => 6144 | 7 => 96 | _ => 0
def rN (nc : Int) : Nat → Int
  | 0 => 1 | 1 => 1 | 2 => 1 | 3 => 1 | 4 => 3 | 5 => 1 | 6 => 5 + nc | 7 => 5 + nc | _ => 0
/-- the room's own references -/
def rdF (mX27_groups mX27_conditions mX27_rules mX27_sets mX27_known mX27_asks mX27_done mX27_more mX27_its mX27_allowed mX27_other mX27_order : Nat → Option Nat) (A : Nat → Int → Nat) : Prop :=
  (mX27_groups (A 0 0) = some (A 1 0) ∧ mX27_order (A 0 0) = some (A 2 0) ∧ mX27_known (A 0 0) = some (A 3 0) ∧ mX27_asks (A 0 0) = some (A 5 0)) ∧
  (mX27_conditions (A 0 0) = some (A 4 0) ∧ mX27_rules (A 0 0) = some (A 4 1) ∧ mX27_sets (A 0 0) = some (A 4 2)) ∧
  (mX27_done (A 0 0) = some (A 6 0) ∧ mX27_more (A 0 0) = some (A 6 1) ∧ mX27_its (A 0 0) = some (A 6 2) ∧ mX27_allowed (A 0 0) = some (A 6 3) ∧ mX27_other (A 0 0) = some (A 6 4))
/-- the ask b is number q -/
def rdAk (kd : Nat → Nat) (mX28_person mX28_graph mX28_predicate mX28_class0 mX28_version : Nat → Int) (b : Nat) (q : Int) : Prop :=
  kd b = 2 ∧ (mX28_person b = q / 768 ∧ mX28_graph b = q / 192 % 4 ∧ mX28_predicate b = q / 32 % 6 ∧ mX28_class0 b = q / 8 % 4 ∧ mX28_version b = q % 8)
def rdAs (kd : Nat → Nat) (ar : Nat → Int → Option Nat) (mX28_person mX28_graph mX28_predicate mX28_class0 mX28_version : Nat → Int) (A : Nat → Int → Nat) (D : Int → Nat) : Prop :=
  ∀ q, 0 ≤ q → q < 6144 → ar (A 5 0) q = some (D q) ∧ rdAk kd mX28_person mX28_graph mX28_predicate mX28_class0 mX28_version (D q) q
/-- the object o of a condition -/
def rdCo (kd an : Nat → Nat) (ai : Nat → Int → Int) (mX75_kind mX75_number : Nat → Int) (mX75_groups : Nat → Option Nat) (mX76_from mX76_to mX77_of mX78_least : Nat → Int) (mX78_of : Nat → Option Nat) (G O : Nat) (kk a b c : Int) (o : Nat) : Prop :=
  ((0 ≤ kk ∧ kk ≤ 4) ∧ kd o = 3 ∧ mX75_kind o = kk ∧ mX75_number o = a ∧ mX75_groups o = some G) ∨ (kk = 5 ∧ kd o = 4 ∧ mX76_from o = a ∧ mX76_to o = b) ∨ (kk = 6 ∧ kd o = 5 ∧ mX77_of o = a) ∨
  ((kk = 7 ∨ kk = 8 ∨ kk = 10) ∧ kd o = 6 ∧ mX78_least o = (if kk = 8 then 1 else 2) ∧ ∃ p, mX78_of o = some p ∧ kd p = 11 ∧ (p ≠ G ∧ p ≠ O) ∧ an p = (if kk = 10 then 3 else 2) ∧ ai p 0 = a ∧ ai p 1 = b ∧ (kk = 10 → ai p 2 = c)) ∨ (kk = 9 ∧ kd o = 7)
def rdCs (kd an : Nat → Nat) (ai : Nat → Int → Int) (ar : Nat → Int → Option Nat) (mX75_kind mX75_number : Nat → Int) (mX75_groups : Nat → Option Nat) (mX76_from mX76_to mX77_of mX78_least : Nat → Int) (mX78_of mJ2_elementData : Nat → Option Nat) (mJ2_size : Nat → Int) (s0 : Nat) (A : Nat → Int → Nat) (kk a b c : Int → Int) (nc : Int) (e0 : Nat) (f0 : Int → Nat) : Prop :=
  lsOK kd an ar mJ2_elementData mJ2_size 15 s0 (A 4 0) e0 nc f0 ∧ ∀ k, 0 ≤ k → k < nc → rdCo kd an ai mX75_kind mX75_number mX75_groups mX76_from mX76_to mX77_of mX78_least mX78_of (A 1 0) (A 2 0) (kk k) (a k) (b k) (c k) (f0 k)
section
variable {kd : Nat → Nat} {an : Nat → Nat} {ai : Nat → Int → Int} {al : Nat → Int → Int} {ar : Nat → Int → Option Nat} {mX27_groups : Nat → Option Nat} {mX27_conditions : Nat → Option Nat} {mX27_rules : Nat → Option Nat} {mX27_sets : Nat → Option Nat} {mX27_right : Nat → Int} {mX27_known : Nat → Option Nat} {mX27_asks : Nat → Option Nat} {mX27_done : Nat → Option Nat} {mX27_more : Nat → Option Nat} {mX27_its : Nat → Option Nat} {mX27_allowed : Nat → Option Nat} {mX27_other : Nat → Option Nat} {mX27_order : Nat → Option Nat} {mX28_person : Nat → Int} {mX28_graph : Nat → Int} {mX28_predicate : Nat → Int} {mX28_class0 : Nat → Int} {mX28_version : Nat → Int} {mX75_kind : Nat → Int} {mX75_number : Nat → Int} {mX75_groups : Nat → Option Nat} {mX76_from : Nat → Int} {mX76_to : Nat → Int} {mX77_of : Nat → Int} {mX78_least : Nat → Int} {mX78_of : Nat → Option Nat} {mX80_rank : Nat → Int} {mX80_denies : Nat → Int} {mX80_condition : Nat → Int} {mJ1_modCount : Nat → Int} {mJ2_elementData : Nat → Option Nat} {mJ2_size : Nat → Int} {mJ4_words : Nat → Option Nat} {mJ4_wordsInUse : Nat → Int} {mJ4_sizeIsSticky : Nat → Int} {sa : Nat → Nat} {A : Nat → Int → Nat} {gi : Nat → Nat × Int} {g kk a b c rk dn wn : Int → Int} {nc nr q : Int} {e0 e1 e2 o : Nat} {f0 f1 : Int → Nat} {D : Int → Nat}
theorem Lab.kd_ {K L : Nat → Nat} {N : Nat → Int} (H : Lab K L kd an A gi N) (i : Nat) (j : Int) (h0 : 0 ≤ j) (h1 : j < N i) : kd (A i j) = K i := (H i j h0 h1).2.1.1
theorem Lab.an_ {K L : Nat → Nat} {N : Nat → Int} (H : Lab K L kd an A gi N) (i : Nat) (j : Int) (h0 : 0 ≤ j) (h1 : j < N i) (hl : L i ≠ 0) : an (A i j) = L i := (H i j h0 h1).2.2 hl
theorem rdCo.ek {G O : Nat} {kk a b c : Int} (H : rdCo kd an ai mX75_kind mX75_number mX75_groups mX76_from mX76_to mX77_of mX78_least mX78_of G O kk a b c o) : ekRD (kd o) ∧ (kd o = 3 ∨ kd o = 4 ∨ kd o = 5 ∨ kd o = 6 ∨ kd o = 7) := by
  unfold ekRD
  rcases H with ⟨_, h, _⟩ | ⟨_, h, _⟩ | ⟨_, h, _⟩ | ⟨_, h, _⟩ | ⟨_, h⟩ <;> omega
def rdSm (f p : Int → Int) : Nat → Int
  | 0 => 0
  | n + 1 => rdSm f p n + (if f (p n) = 0 then 0 else 1)
theorem rdSm_b (f p : Int → Int) : ∀ n, 0 ≤ rdSm f p n ∧ rdSm f p n ≤ n
  | 0 => ⟨Int.le_refl 0, Int.le_refl 0⟩
  | n + 1 => by have := rdSm_b f p n; unfold rdSm; split <;> omega
theorem CRD_some {post : Int → Prop} {p K : Nat} {m l : Int} {x1 : Option Nat} (e1 : mX78_of o = some p) (el : mX78_least o = l) (kp : kd p = 11) (kK : kd K = 12) (lK : an K = 60) (lp : (an p : Int) = m) (hm : 0 ≤ m ∧ m ≤ 3) (hi : ∀ j, 0 ≤ j → j < m → 0 ≤ ai p j ∧ ai p j < 60) (h0 : rdSm (ai K) (ai p) m.toNat < l → post 0) (h1 : ¬ rdSm (ai K) (ai p) m.toNat < l → post 1) : wpRD_X78_holds post kd an ai mX78_least mX78_of o x1 (some K) := by
  unfold wpRD_X78_holds
  intro r er
  rw [e1] at er
  subst er
  refine kOn_some ⟨kp, by omega, fun _ e5 => ?_⟩
  rw [e5, lp]
  refine wl2 (fun n x i => wRD_X78_holds_16 _ (some K) (some p) _ kd an ai n x i) (fun x i => (0 ≤ i ∧ i ≤ m) ∧ x = rdSm (ai K) (ai p) i.toNat) (fun x i => (m - i).toNat) ?_ 0 0 ⟨by omega, rfl⟩
  rintro x i ⟨hi2, ex⟩ n ih
  rw [wRD_X78_holds_16]
  have sb := rdSm_b (ai K) (ai p) i.toNat
  have nx : rdSm (ai K) (ai p) (i + 1).toNat = rdSm (ai K) (ai p) i.toNat + (if ai K (ai p i) = 0 then 0 else 1) := by
    rw [show (i + 1).toNat = i.toNat + 1 by omega, rdSm, show ((i.toNat : Nat) : Int) = i by omega]
  refine ⟨fun z => ?_, fun z => kOn_some ⟨kp, by omega, fun _ e7 => kOn_some ⟨kK, ?_, fun z2 => ⟨by omega, fun _ e8 => ⟨by omega, fun _ e9 => ?_⟩⟩, fun z2 => ⟨by omega, fun _ e8 => ⟨by omega, fun _ e9 => ?_⟩⟩⟩⟩⟩
  · have : i = m := by omega
    subst this
    rw [ex, el]
    exact ⟨h0, h1⟩
  · rw [lK, e7]; have := hi i hi2.1 (by omega); omega
  · subst e7 e8 e9
    exact ih _ _ ⟨by omega, by rw [nx, if_pos z2, ex]⟩ (by omega)
  · subst e7 e8 e9
    exact ih _ _ ⟨by omega, by rw [nx, if_neg z2, ex]⟩ (by omega)
theorem CRD_holds {post : Int → Prop} {G O K : Nat} {k : Int} {x1 : Nat} (hC : rdCo kd an ai mX75_kind mX75_number mX75_groups mX76_from mX76_to mX77_of mX78_least mX78_of G O (kk k) (a k) (b k) (c k) o) (hg : rdG kk a b c k) (hk : k < 60) (kG : kd G = 11) (lG : an G = 8) (eg : ∀ p, 0 ≤ p → p < 8 → ai G p = g p) (kK : kd K = 12) (lK : an K = 60) (hq : 0 ≤ q ∧ q < 6144) (hA : rdAk kd mX28_person mX28_graph mX28_predicate mX28_class0 mX28_version x1 q)
    (h1 : rdP g kk a b c q k (ai K) → post 1) (h0 : ¬ rdP g kk a b c q k (ai K) → post 0) : wpDRD_X75_holds_3_4_5_6_7 post kd an ai mX28_person mX28_graph mX28_predicate mX28_class0 mX28_version mX75_kind mX75_number mX75_groups mX76_from mX76_to mX77_of mX78_least mX78_of o (some x1) (some K) := by
  obtain ⟨ka, a1, a2, a3, a4, a5⟩ := hA
  obtain ⟨g1, g2, g3, g4, g5⟩ := hg
  unfold wpDRD_X75_holds_3_4_5_6_7
  unfold rdP at h1 h0
  rcases hC with ⟨w, ko, r1, r2, r3⟩ | ⟨w, ko, r1, r2⟩ | ⟨w, ko, r1⟩ | ⟨w, ko, r1, p, r2, kp, r3, lp, r4, r5, r6⟩ | ⟨w, ko⟩
  · refine Or.inl ⟨ko, ?_⟩
    unfold wpRD_X75_holds
    intro z ez
    rw [r1] at ez
    rw [← ez] at h1 h0 w
    rw [r2]
    refine ⟨fun z0 => kOn_some ⟨ka, ?_⟩, fun z0 => ⟨fun z1 => kOn_some ⟨ka, kOn_of r3 ⟨kG, by rw [lG, a1]; omega, by rw [ez] at z1; have := g2 z1; omega, ?_⟩⟩, fun z1 => ⟨fun z2 => kOn_some ⟨ka, ?_⟩, fun z2 => ⟨fun z3 => kOn_some ⟨ka, ?_⟩, fun z3 => kOn_some ⟨ka, ?_⟩⟩⟩⟩⟩
    · rw [a1]; rw [z0] at h1 h0
      exact ⟨fun y => h1 (by simpa [rdQ] using y), fun y => h0 (by simpa [rdQ] using y)⟩
    · rw [a1, eg _ (by omega) (by omega)]; rw [z1] at h1 h0
      exact ⟨fun y => h1 (by simpa [rdQ] using y), fun y => h0 (by simpa [rdQ] using y)⟩
    · rw [a2]; rw [z2] at h1 h0
      exact ⟨fun y => h1 (by simpa [rdQ] using y), fun y => h0 (by simpa [rdQ] using y)⟩
    · rw [a3]; rw [z3] at h1 h0
      exact ⟨fun y => h1 (by simpa [rdQ] using y), fun y => h0 (by simpa [rdQ] using y)⟩
    · rw [a4]
      have z4 : z = 4 := by omega
      rw [z4] at h1 h0
      exact ⟨fun y => h1 (by simpa [rdQ] using y), fun y => h0 (by simpa [rdQ] using y)⟩
  · refine Or.inr (Or.inl ⟨ko, ?_⟩)
    unfold wpRD_X76_holds
    rw [w] at h1 h0
    refine kOn_some ⟨ka, ?_⟩
    rw [a5, r1, r2]
    exact ⟨fun y => h0 (by simp [rdQ]; omega), fun y => ⟨fun y2 => h0 (by simp [rdQ]; omega), fun y2 => h1 (by simp [rdQ]; omega)⟩⟩
  · refine Or.inr (Or.inr (Or.inl ⟨ko, ?_⟩))
    unfold wpRD_X77_holds
    have := g3 (by omega)
    rw [w] at h1 h0
    refine kOn_some ⟨kK, by rw [lK, r1]; omega, ?_⟩
    rw [r1]
    exact ⟨fun y => h1 (by simpa [rdQ] using y), fun y => h0 (by simpa [rdQ] using y)⟩
  · refine Or.inr (Or.inr (Or.inr (Or.inl ⟨ko, ?_⟩)))
    have q3 := g3 (by omega)
    have q4 := g4 (by omega)
    by_cases w10 : kk k = 10
    · have q5 := g5 w10
      rw [if_pos w10] at lp
      rw [if_neg (by omega)] at r1
      have r6 := r6 w10
      have es : rdSm (ai K) (ai p) (3 : Int).toNat = 0 + (if ai K (a k) = 0 then 0 else 1) + (if ai K (b k) = 0 then 0 else 1) + (if ai K (c k) = 0 then 0 else 1) := by
        rw [← r4, ← r5, ← r6]; rfl
      rw [w10] at h1 h0
      refine CRD_some (m := 3) r2 r1 kp kK lK (by omega) (by decide) (fun j j0 j1 => ?_) (fun z => h0 ?_) (fun z => h1 ?_)
      · have : j = 0 ∨ j = 1 ∨ j = 2 := by omega
        rcases this with rfl | rfl | rfl <;> omega
      · rw [es] at z
        by_cases x1 : ai K (a k) = 0 <;> by_cases x2 : ai K (b k) = 0 <;> by_cases x3 : ai K (c k) = 0 <;> simp [rdQ, x1, x2, x3] at z ⊢
      · rw [es] at z
        by_cases x1 : ai K (a k) = 0 <;> by_cases x2 : ai K (b k) = 0 <;> by_cases x3 : ai K (c k) = 0 <;> simp [rdQ, x1, x2, x3] at z ⊢
    · rw [if_neg w10] at lp
      have es : rdSm (ai K) (ai p) (2 : Int).toNat = 0 + (if ai K (a k) = 0 then 0 else 1) + (if ai K (b k) = 0 then 0 else 1) := by
        rw [← r4, ← r5]; rfl
      have w7 : kk k = 7 ∨ kk k = 8 := by omega
      refine CRD_some (m := 2) r2 r1 kp kK lK (by omega) (by decide) (fun j j0 j1 => ?_) (fun z => h0 ?_) (fun z => h1 ?_)
      · have : j = 0 ∨ j = 1 := by omega
        rcases this with rfl | rfl <;> omega
      · rw [es] at z
        rcases w7 with w7 | w7
        · rw [w7] at z ⊢
          by_cases x1 : ai K (a k) = 0 <;> by_cases x2 : ai K (b k) = 0 <;> simp [rdQ, x1, x2] at z ⊢
        · rw [w7] at z ⊢
          by_cases x1 : ai K (a k) = 0 <;> by_cases x2 : ai K (b k) = 0 <;> simp [rdQ, x1, x2] at z ⊢
      · rw [es] at z
        rcases w7 with w7 | w7
        · rw [w7] at z ⊢
          by_cases x1 : ai K (a k) = 0 <;> by_cases x2 : ai K (b k) = 0 <;> simp [rdQ, x1, x2] at z ⊢
        · rw [w7] at z ⊢
          by_cases x1 : ai K (a k) = 0 <;> by_cases x2 : ai K (b k) = 0 <;> simp [rdQ, x1, x2] at z ⊢
  · refine Or.inr (Or.inr (Or.inr (Or.inr ⟨ko, ?_⟩)))
    unfold wpRD_X79_holds
    exact h1 (by rw [w]; simp [rdQ])
/-- all that is asked of the room for a look at an ask -/
def rdKn (kd an : Nat → Nat) (ai : Nat → Int → Int) (mX27_conditions mX27_known : Nat → Option Nat) (A : Nat → Int → Nat) (g kk a b c : Int → Int) (nc : Int) : Prop :=
  rdC kk a b c nc ∧ (mX27_conditions (A 0 0) = some (A 4 0) ∧ mX27_known (A 0 0) = some (A 3 0)) ∧ (kd (A 4 0) = 9 ∧ kd (A 1 0) = 11 ∧ an (A 1 0) = 8 ∧ kd (A 3 0) = 12 ∧ an (A 3 0) = 60) ∧ ∀ p, 0 ≤ p → p < 8 → ai (A 1 0) p = g p
theorem rdCo_ai {G O K : Nat} {kk a b c : Int} {f : Int → Int} (kK : kd K = 12) (H : rdCo kd an ai mX75_kind mX75_number mX75_groups mX76_from mX76_to mX77_of mX78_least mX78_of G O kk a b c o) : rdCo kd an (va_up ai K f) mX75_kind mX75_number mX75_groups mX76_from mX76_to mX77_of mX78_least mX78_of G O kk a b c o := by
  rcases H with h | h | h | ⟨w, ko, r1, p, r2, kp, r3, lp, r4, r5, r6⟩ | h
  · exact Or.inl h
  · exact Or.inr (Or.inl h)
  · exact Or.inr (Or.inr (Or.inl h))
  · have e : va_up ai K f p = ai p := va_up_ne _ _ (fun z => by rw [z, kK] at kp; exact absurd kp (by decide))
    exact Or.inr (Or.inr (Or.inr (Or.inl ⟨w, ko, r1, p, r2, kp, r3, lp, by rw [e]; exact r4, by rw [e]; exact r5, by rw [e]; exact r6⟩)))
  · exact Or.inr (Or.inr (Or.inr (Or.inr h)))
theorem CRD_know {post : (Nat → Int → Int) → Prop} {x1 : Nat} (H : rdKn kd an ai mX27_conditions mX27_known A g kk a b c nc) (hC : rdCs kd an ai ar mX75_kind mX75_number mX75_groups mX76_from mX76_to mX77_of mX78_least mX78_of mJ2_elementData mJ2_size (sa 0) A kk a b c nc e0 f0) (hA : rdAk kd mX28_person mX28_graph mX28_predicate mX28_class0 mX28_version x1 q) (hq : 0 ≤ q ∧ q < 6144)
    (hp : ∀ f, (∀ k, 0 ≤ k → k < nc → f k = rdH g kk a b c q k) → post (va_up ai (A 3 0) f)) : wpRD_X27_know post kd an ai ar mX27_conditions mX27_known mX28_person mX28_graph mX28_predicate mX28_class0 mX28_version mX75_kind mX75_number mX75_groups mX76_from mX76_to mX77_of mX78_least mX78_of mJ2_elementData mJ2_size (A 0 0) (some x1) := by
  obtain ⟨hc, ⟨r1, r2⟩, ⟨k4, k1, l1, k3, l3⟩, eg⟩ := H
  obtain ⟨hL, hO⟩ := hC
  have hs := hL.2.1
  have hn := hc.1
  have n13 : A 1 0 ≠ A 3 0 := fun z => by rw [z, k3] at k1; exact absurd k1 (by decide)
  unfold wpRD_X27_know
  refine wl2 (fun n i s => wRD_X27_know_2 _ (A 0 0) (some x1) kd an ar mX27_conditions mX27_known mX28_person mX28_graph mX28_predicate mX28_class0 mX28_version mX75_kind mX75_number mX75_groups mX76_from mX76_to mX77_of mX78_least mX78_of mJ2_elementData mJ2_size n i s) (fun i s => (0 ≤ i ∧ i ≤ nc) ∧ ∃ f, s = va_up ai (A 3 0) f ∧ ∀ k, 0 ≤ k → k < i → f k = rdH g kk a b c q k) (fun i s => (nc - i).toNat) ?_ 0 ai ⟨by omega, ai (A 3 0), (va_up_id rfl).symm, fun k x y => by omega⟩
  rintro i s ⟨hi, f, rfl, hf⟩ n ih
  rw [wRD_X27_know_2]
  unfold wpRD_J2_size
  refine kOn_of r1 ⟨k4, ?_⟩
  rw [hs]
  refine ⟨fun z => hp f (fun k x y => hf k x (by omega)), fun z => CRD_lget hL hi.1 (by omega) (kOn_some ⟨(hO i hi.1 (by omega)).ek.2, ?_⟩)⟩
  have hg := hc.2 i hi.1 (by omega)
  have eP := rdP_c (g := g) (q := q) hg hf
  have eH := rdH_eq (g := g) (q := q) hi.1 hg
  have nxt : ∀ v : Int, (v = 0 ∨ v = 1) → v = rdH g kk a b c q i → kOn (mX27_known (A 0 0)) (fun b_12 => kd b_12 = 12 ∧ (0 ≤ i ∧ i < (an b_12 : Int)) ∧ (v = 0 ∨ v = 1) ∧ ∀ ai_16 : Nat → Int → Int, ai_16 = va_up (va_up ai (A 3 0) f) b_12 (updI (va_up ai (A 3 0) f b_12) i v) → (zR (i + 1) ∧ ∀ x2_17 : Int, x2_17 = i + 1 → wRD_X27_know_2 (fun ai_19 => post ai_19) (A 0 0) (some x1) kd an ar mX27_conditions mX27_known mX28_person mX28_graph mX28_predicate mX28_class0 mX28_version mX75_kind mX75_number mX75_groups mX76_from mX76_to mX77_of mX78_least mX78_of mJ2_elementData mJ2_size n x2_17 ai_16)) := by
    intro v hv ev
    refine kOn_of r2 ⟨k3, by rw [l3]; omega, hv, fun _ e1 => ⟨by omega, fun _ e2 => ?_⟩⟩
    subst e1 e2
    rw [va_up_self, va_up_up]
    refine ih _ _ ⟨by omega, _, rfl, fun k x y => ?_⟩ (by omega)
    by_cases hk : k = i
    · rw [hk, updI_s]; exact ev
    · rw [updI_n hk]; exact hf k x (by omega)
  rw [r2]
  refine CRD_holds (g := g) (rdCo_ai k3 (hO i hi.1 (by omega))) hg (by omega) k1 l1 (fun p x y => by rw [va_up_ne _ _ n13]; exact eg p x y) k3 l3 hq hA (fun w => ?_) (fun w => ?_)
  · rw [va_up_self] at w
    have := nxt 1 (Or.inr rfl) (by rw [eH, pif_t (eP.mp w)])
    rw [r2] at this; exact this
  · rw [va_up_self] at w
    have := nxt 0 (Or.inl rfl) (by rw [eH, pif_f (fun y => w (eP.mpr y))])
    rw [r2] at this; exact this
end
