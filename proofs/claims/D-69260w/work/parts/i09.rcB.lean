/-! RuleEngine (room RE): its shape; what is bound and safe -/
/-- labels: 0 this, 1 sets (said, holds, two more), 2 strata needs held, 3 safe, 4 rounds counts, 5 values, 6 together, 7 coming, 8 counting, 9 gathering, 10 rules -/
def rxK : Nat → Nat
  | 0 => 1 | 1 => 8 | 2 => 9 | 3 => 10 | 4 => 9 | 5 => 9 | 6 => 9 | 7 => 2 | 8 => 3 | 9 => 4 | 10 => 7 | _ => 99
def rxL : Nat → Nat
  | 2 => 16 | 3 => 16 | 4 => 16384 | 5 => 6 | 6 => 32 | _ => 0
def rxN : Nat → Int
  | 0 => 1 | 1 => 4 | 2 => 3 | 3 => 1 | 4 => 2 | 5 => 1 | 6 => 1 | 7 => 1 | 8 => 1 | 9 => 1 | 10 => 1 | _ => 0
def rxF (mX35_said mX35_rules mX35_strata mX35_needs mX35_safe mX35_holds mX35_rounds mX35_counts mX35_values mX35_coming mX35_counting mX35_gathering mX35_together mX35_held : Nat → Option Nat) (A : Nat → Int → Nat) : Prop :=
  (mX35_said (A 0 0) = some (A 1 0) ∧ mX35_holds (A 0 0) = some (A 1 1) ∧ mX35_rules (A 0 0) = some (A 10 0)) ∧
  (mX35_strata (A 0 0) = some (A 2 0) ∧ mX35_needs (A 0 0) = some (A 2 1) ∧ mX35_held (A 0 0) = some (A 2 2) ∧ mX35_safe (A 0 0) = some (A 3 0)) ∧
  (mX35_rounds (A 0 0) = some (A 4 0) ∧ mX35_counts (A 0 0) = some (A 4 1) ∧ mX35_values (A 0 0) = some (A 5 0) ∧ mX35_together (A 0 0) = some (A 6 0)) ∧
  (mX35_coming (A 0 0) = some (A 7 0) ∧ mX35_counting (A 0 0) = some (A 8 0) ∧ mX35_gathering (A 0 0) = some (A 9 0))
/-- a part -/
def rxPt (kd : Nat → Nat) (so nm px py : Nat → Int) (p : Nat) (s n a b : Int) : Prop := kd p = 6 ∧ so p = s ∧ nm p = n ∧ px p = a ∧ py p = b
def rxSo (pt : Int → Int) (i : Int) : Int := if pt i = 2 then 2 + pt (i + 1) else pt i
def rxNm (pt : Int → Int) (i : Int) : Int := if pt i = 2 then 0 else pt (i + 1)
/-- a rule o: its head h, its list l with the row e, its parts p -/
def rxRu (kd an : Nat → Nat) (ar : Nat → Int → Option Nat) (hp pp : Nat → Option Nat) (kp vp so nm px py : Nat → Int) (ed : Nat → Option Nat) (sz : Nat → Int) (s0 : Nat) (hd ki fo ln pt : Int → Int) (r : Int) (o h l e : Nat) (p : Int → Nat) : Prop :=
  (kd o = 5 ∧ hp o = some h ∧ pp o = some l ∧ kp o = ki r ∧ vp o = fo r) ∧ rxPt kd so nm px py h 0 (hd (3 * r)) (hd (3 * r + 1)) (hd (3 * r + 2)) ∧ kd l = 7 ∧ lsOK kd an ar ed sz 12 s0 l e (ln r) p ∧
  ∀ k, 0 ≤ k → k < ln r → rxPt kd so nm px py (p k) (rxSo pt (20 * r + 4 * k)) (rxNm pt (20 * r + 4 * k)) (pt (20 * r + 4 * k + 2)) (pt (20 * r + 4 * k + 3))
/-- all rules -/
def rxRs (kd an : Nat → Nat) (ar : Nat → Int → Option Nat) (hp pp : Nat → Option Nat) (kp vp so nm px py : Nat → Int) (ed : Nat → Option Nat) (sz : Nat → Int) (s0 : Nat) (A : Nat → Int → Nat) (hd ki fo ln pt : Int → Int) (n : Int) (e0 : Nat) (F H_ Li Ro : Int → Nat) (Pa : Int → Int → Nat) : Prop :=
  lsOK kd an ar ed sz 12 s0 (A 10 0) e0 n F ∧ (∀ r, 0 ≤ r → r < n → rxRu kd an ar hp pp kp vp so nm px py ed sz s0 hd ki fo ln pt r (F r) (H_ r) (Li r) (Ro r) (Pa r)) ∧
  (∀ i j, 0 ≤ i → i < n → 0 ≤ j → j < n → i ≠ j → F i ≠ F j ∧ Li i ≠ Li j ∧ lsDj kd 12 s0 (Ro i) (Ro j)) ∧ ∀ i, 0 ≤ i → i < n → Li i ≠ A 10 0 ∧ lsDj kd 12 s0 e0 (Ro i)
/-- the sets -/
def rxB (kd an : Nat → Nat) (al : Nat → Int → Int) (wd : Nat → Option Nat) (iu : Nat → Int) (A : Nat → Int → Nat) (W : Int → Nat) (L : Int → Int) (P : Int → Int → Prop) : Prop := (∀ j, 0 ≤ j → j < 4 → bsI kd an al wd iu (A 1 j) (W j) (L j) (P j)) ∧ ∀ i j, 0 ≤ i → i < 4 → 0 ≤ j → j < 4 → i ≠ j → W i ≠ W j
def upJ {α : Type} (f : Int → α) (j : Int) (v : α) : Int → α := fun i => if i = j then v else f i
theorem upJ_s {α : Type} {f : Int → α} {j : Int} {v : α} : upJ f j v j = v := if_pos rfl
theorem upJ_n {α : Type} {f : Int → α} {j i : Int} {v : α} (h : i ≠ j) : upJ f j v i = f i := if_neg h
section
variable {kd : Nat → Nat} {an : Nat → Nat} {ai : Nat → Int → Int} {al : Nat → Int → Int} {ar : Nat → Int → Option Nat} {mX35_said : Nat → Option Nat} {mX35_rules : Nat → Option Nat} {mX35_strata : Nat → Option Nat} {mX35_needs : Nat → Option Nat} {mX35_safe : Nat → Option Nat} {mX35_circle : Nat → Int} {mX35_known : Nat → Int} {mX35_holds : Nat → Option Nat} {mX35_rounds : Nat → Option Nat} {mX35_counts : Nat → Option Nat} {mX35_roundCount : Nat → Int} {mX35_last : Nat → Option Nat} {mX35_next : Nat → Option Nat} {mX35_values : Nat → Option Nat} {mX35_coming : Nat → Option Nat} {mX35_counting : Nat → Option Nat} {mX35_gathering : Nat → Option Nat} {mX35_together : Nat → Option Nat} {mX35_held : Nat → Option Nat} {mX35_work : Nat → Int} {mX35_large : Nat → Int} {mX83_head : Nat → Option Nat} {mX83_parts : Nat → Option Nat} {mX83_kind : Nat → Int} {mX83_variable : Nat → Int} {mX84_sort : Nat → Int} {mX84_name : Nat → Int} {mX84_x : Nat → Int} {mX84_y : Nat → Int} {mJ1_modCount : Nat → Int} {mJ2_elementData : Nat → Option Nat} {mJ2_size : Nat → Int} {mJ4_words : Nat → Option Nat} {mJ4_wordsInUse : Nat → Int} {mJ4_sizeIsSticky : Nat → Int} {sa : Nat → Nat} {A : Nat → Int → Nat} {g : Nat → Nat × Int} {hd ki fo ln pt sd st rn gv : Int → Int} {n r k v c s : Int} {o h l e e0 : Nat} {p : Int → Nat} {W : Int → Nat} {Lq : Int → Int} {Pq : Int → Int → Prop} {MC MS : Nat}
theorem rx_kd {N : Nat → Int} {K L : Nat → Nat} (H : Lab K L kd an A g N) (i : Nat) (j : Int) (h0 : 0 ≤ j) (h1 : j < N i) : kd (A i j) = K i := (H i j h0 h1).2.1.1
theorem rx_an {N : Nat → Int} {K L : Nat → Nat} (H : Lab K L kd an A g N) (i : Nat) (j : Int) (h0 : 0 ≤ j) (h1 : j < N i) (hl : L i ≠ 0) : an (A i j) = L i := (H i j h0 h1).2.2 hl
theorem rxPt.le {kd' an' : Nat → Nat} {so nm px py : Nat → Int} {q : Nat} {s n a b : Int} (H : rxPt kd so nm px py q s n a b) (le : kLe kd an kd' an') : rxPt kd' so nm px py q s n a b := ⟨((le q (by rw [H.1]; decide)).1).trans H.1, H.2⟩
theorem rxRu.le {kd' an' : Nat → Nat} (H : rxRu kd an ar mX83_head mX83_parts mX83_kind mX83_variable mX84_sort mX84_name mX84_x mX84_y mJ2_elementData mJ2_size (sa 0) hd ki fo ln pt r o h l e p) (le : kLe kd an kd' an') : rxRu kd' an' ar mX83_head mX83_parts mX83_kind mX83_variable mX84_sort mX84_name mX84_x mX84_y mJ2_elementData mJ2_size (sa 0) hd ki fo ln pt r o h l e p := by
  obtain ⟨⟨a1, a2⟩, a3, a4, a5, a6⟩ := H
  exact ⟨⟨((le o (by rw [a1]; decide)).1).trans a1, a2⟩, a3.le le, ((le l (by rw [a4]; decide)).1).trans a4, a5.mono (by decide) le, fun k k0 k1 => (a6 k k0 k1).le le⟩
theorem rxRs.le {kd' an' : Nat → Nat} {F H_ Li Ro : Int → Nat} {Pa : Int → Int → Nat} (H : rxRs kd an ar mX83_head mX83_parts mX83_kind mX83_variable mX84_sort mX84_name mX84_x mX84_y mJ2_elementData mJ2_size (sa 0) A hd ki fo ln pt n e0 F H_ Li Ro Pa) (le : kLe kd an kd' an') : rxRs kd' an' ar mX83_head mX83_parts mX83_kind mX83_variable mX84_sort mX84_name mX84_x mX84_y mJ2_elementData mJ2_size (sa 0) A hd ki fo ln pt n e0 F H_ Li Ro Pa := by
  obtain ⟨h1, h2, h3, h4⟩ := H
  exact ⟨h1.mono (by decide) le, fun r r0 r1 => (h2 r r0 r1).le le, fun i j i0 i1 j0 j1 ne => ⟨(h3 i j i0 i1 j0 j1 ne).1, (h3 i j i0 i1 j0 j1 ne).2.1, (h3 i j i0 i1 j0 j1 ne).2.2.le (by decide) le (h2 i i0 i1).2.2.2.1.own (h2 j j0 j1).2.2.2.1.own⟩, fun i i0 i1 => ⟨(h4 i i0 i1).1, (h4 i i0 i1).2.le (by decide) le h1.own (h2 i i0 i1).2.2.2.1.own⟩⟩
/-- one set changed -/
theorem rxB.up {kd' an' : Nat → Nat} {al' : Nat → Int → Int} {wd' : Nat → Option Nat} {iu' : Nat → Int} {j : Int} {w' : Nat} {L' : Int} {P' : Int → Prop} (H : Lab rxK rxL kd an A g rxN) (B : rxB kd an al mJ4_words mJ4_wordsInUse A W Lq Pq) (j0 : 0 ≤ j) (j1 : j < 4) (Fr : bsF kd an al mJ4_words mJ4_wordsInUse (A 1 j) (W j) kd' an' al' wd' iu' w') (N : bsI kd' an' al' wd' iu' (A 1 j) w' L' P') : rxB kd' an' al' wd' iu' A (upJ W j w') (upJ Lq j L') (upJ Pq j P') := by
  have ot : ∀ i, 0 ≤ i → i < 4 → i ≠ j → bsI kd' an' al' wd' iu' (A 1 i) (W i) (Lq i) (Pq i) ∧ W i ≠ w' := fun i i0 i1 ne => (B.1 i i0 i1).fr (H.ne (i := 1) (i' := 1) ⟨i0, i1⟩ ⟨j0, j1⟩ (Or.inr ne)) (B.2 i j i0 i1 j0 j1 ne) Fr
  refine ⟨fun i i0 i1 => ?_, fun a b a0 a1 b0 b1 ne => ?_⟩
  · by_cases z : i = j
    · rw [z, upJ_s, upJ_s, upJ_s]; exact N
    · rw [upJ_n z, upJ_n z, upJ_n z]; exact (ot i i0 i1 z).1
  · by_cases z : a = j
    · rw [z, upJ_s, upJ_n (fun e => ne (z.trans e.symm))]
      exact ((ot b b0 b1 (fun e => ne (z.trans e.symm))).2).symm
    · rw [upJ_n z]
      by_cases y : b = j
      · rw [y, upJ_s]; exact (ot a a0 a1 z).2
      · rw [upJ_n y]; exact B.2 a b a0 a1 b0 b1 ne
theorem CRE_isName {post : Int → Prop} (h1 : 0 ≤ v → v < 16 → post 1) (h0 : ¬ (0 ≤ v ∧ v < 16) → post 0) : wpRE_X35_isName post v := by
  unfold wpRE_X35_isName
  exact ⟨fun w => h0 (by omega), fun w => ⟨fun w2 => h0 (by omega), fun w2 => h1 (by omega) (by omega)⟩⟩
theorem CRE_isNumber {post : Int → Prop} (h1 : 0 ≤ v → v < 32 → post 1) (h0 : ¬ (0 ≤ v ∧ v < 32) → post 0) : wpRE_X35_isNumber post v := by
  unfold wpRE_X35_isNumber
  exact ⟨fun w => h0 (by omega), fun w => ⟨fun w2 => h0 (by omega), fun w2 => h1 (by omega) (by omega)⟩⟩
theorem CRE_isItem {post : Int → Prop} (h1 : reIt v → post 1) (h0 : ¬ reIt v → post 0) : wpRE_X35_isItem post v := by
  unfold wpRE_X35_isItem
  unfold reIt at h1 h0
  exact ⟨fun w => h0 (by omega), fun w => ⟨fun w2 => h0 (by omega), fun w2 => h1 (by omega)⟩⟩
theorem CRE_isFact {post : Int → Prop} {a b : Int} (h1 : reFc v a b → post 1) (h0 : ¬ reFc v a b → post 0) : wpRE_X35_isFact post v a b := by
  unfold wpRE_X35_isFact
  exact CRE_isName (fun n0 n1 => ⟨fun z => absurd z (by decide), fun _ => CRE_isNumber (fun a0 a1 => ⟨fun z => absurd z (by decide), fun _ => CRE_isNumber (fun b0 b1 => ⟨fun z => absurd z (by decide), fun _ => h1 ⟨⟨n0, n1⟩, ⟨a0, a1⟩, b0, b1⟩⟩) (fun w => ⟨fun _ => h0 (fun z => w z.2.2), fun z => absurd rfl z⟩)⟩) (fun w => ⟨fun _ => h0 (fun z => w z.2.1), fun z => absurd rfl z⟩)⟩) (fun w => ⟨fun _ => h0 (fun z => w z.1), fun z => absurd rfl z⟩)
theorem CRE_isRule {post : Int → Prop} (r1 : mX35_rules (A 0 0) = some l) (kl : kd l = 7) (hs : mJ2_size l = n) (h1 : 0 ≤ v → v < n → post 1) (h0 : ¬ (0 ≤ v ∧ v < n) → post 0) : wpRE_X35_isRule post kd mX35_rules mJ2_size (A 0 0) v := by
  unfold wpRE_X35_isRule wpRE_J2_size
  refine ⟨fun w => h0 (by omega), fun w => kOn_of r1 ⟨kl, ?_⟩⟩
  rw [hs]
  exact ⟨fun w2 => h0 (by omega), fun w2 => h1 (by omega) (by omega)⟩
theorem rxSo_0 (h : pt v = 0 ∨ pt v = 1 ∨ pt v = 2) (h1 : 0 ≤ pt (v + 1)) : rxSo pt v = 0 ↔ pt v = 0 := by
  unfold rxSo
  split <;> omega
theorem CRE_binds {post : Int → Prop} (I : reI hd ki fo ln pt n) (hr : 0 ≤ r ∧ r < n) (H : rxRu kd an ar mX83_head mX83_parts mX83_kind mX83_variable mX84_sort mX84_name mX84_x mX84_y mJ2_elementData mJ2_size (sa 0) hd ki fo ln pt r o h l e p) (h1 : reBd ln pt r v → post 1) (h0 : ¬ reBd ln pt r v → post 0) : wpRE_X83_binds post kd an ar mX83_parts mX84_sort mX84_x mX84_y mJ2_elementData mJ2_size o v := by
  obtain ⟨_, _, hl, i4⟩ := I.2 r hr.1 hr.2
  obtain ⟨⟨_, _, a2, _⟩, _, a4, a5, a6⟩ := H
  have hs := a5.2.1
  unfold wpRE_X83_binds
  refine ⟨fun neg => ?_, fun z => h1 (Or.inl (by omega))⟩
  refine wloop (fun f k => wRE_X83_binds_8 (post 1) (post 0) o v kd an ar mX83_parts mX84_sort mX84_x mX84_y mJ2_elementData mJ2_size f k) (fun k => (0 ≤ k ∧ k ≤ ln r) ∧ ∀ j, 0 ≤ j → j < k → ¬ (pt (20 * r + 4 * j) = 0 ∧ (pt (20 * r + 4 * j + 2) = v ∨ pt (20 * r + 4 * j + 3) = v))) (fun k => (ln r - k).toNat) ?_ 0 ⟨by omega, fun j j0 j1 => by omega⟩
  rintro k ⟨hk, hn⟩ f ih
  rw [wRE_X83_binds_8]
  unfold wpRE_J2_size
  refine kOn_of a2 ⟨a4, ?_⟩
  rw [hs]
  refine ⟨fun z => h0 (fun q => ?_), fun z => CRE_lget a5 hk.1 (by omega) (kOn_some ?_)⟩
  · rcases q with q | ⟨j, hj, q1, q2⟩
    · omega
    · exact hn j hj.1 (by omega) ⟨q1, q2⟩
  obtain ⟨b1, b2, b3, b4, b5⟩ := a6 k hk.1 (by omega)
  obtain ⟨p1, p2, p3⟩ := i4 k hk.1 (by omega)
  have so := rxSo_0 (pt := pt) (v := 20 * r + 4 * k) (by omega) p2.1
  unfold wpRE_X84_sort wpRE_X84_x wpRE_X84_y
  rw [b2, b4, b5]
  have go : ¬ (pt (20 * r + 4 * k) = 0 ∧ (pt (20 * r + 4 * k + 2) = v ∨ pt (20 * r + 4 * k + 3) = v)) → ∀ x2 : Int, x2 = k + 1 → wRE_X83_binds_8 (post 1) (post 0) o v kd an ar mX83_parts mX84_sort mX84_x mX84_y mJ2_elementData mJ2_size f x2 := fun q x2 e2 => by
    rw [e2]
    refine ih _ ⟨by omega, fun j j0 j1 => ?_⟩ (by omega)
    by_cases y : j = k
    · rw [y]; exact q
    · exact hn j j0 (by omega)
  exact ⟨b1, fun z0 => ⟨fun q => h1 (Or.inr ⟨k, by omega, so.1 z0, Or.inl q⟩), fun q => ⟨fun q2 => h1 (Or.inr ⟨k, by omega, so.1 z0, Or.inr q2⟩), fun q2 => ⟨by omega, go (fun w => w.2.elim q q2)⟩⟩⟩, fun z0 => ⟨by omega, go (fun w => z0 (so.2 w.1))⟩⟩
theorem CRE_isSafe {post : Int → Prop} (I : reI hd ki fo ln pt n) (hr : 0 ≤ r ∧ r < n) (H : rxRu kd an ar mX83_head mX83_parts mX83_kind mX83_variable mX84_sort mX84_name mX84_x mX84_y mJ2_elementData mJ2_size (sa 0) hd ki fo ln pt r o h l e p) (h1 : reSf hd ki fo ln pt r → post 1) (h0 : ¬ reSf hd ki fo ln pt r → post 0) : wpRE_X83_isSafe post kd an ar mX83_head mX83_parts mX83_kind mX83_variable mX84_sort mX84_x mX84_y mJ2_elementData mJ2_size o := by
  obtain ⟨_, ⟨hk, _⟩, hl, i4⟩ := I.2 r hr.1 hr.2
  obtain ⟨⟨a0, a1, a2, a3, a3'⟩, ⟨c1, c2, c3, c4, c5⟩, a4, a5, a6⟩ := id H
  have hs := a5.2.1
  have loop : ∀ (s : Int), ((s = 0 ∧ ¬ reSf hd ki fo ln pt r) ∨ (s = 1 ∧ (reBd ln pt r (hd (3 * r + 1)) ∧ (ki r < 0 → reBd ln pt r (hd (3 * r + 2))) ∧ (¬ ki r < 0 → reBd ln pt r (fo r))))) → ∃ fu : Nat, wRE_X83_isSafe_58 (fun (x1_43 : Int) => (x1_43 = 0 ∨ x1_43 = 1) ∧ ((post x1_43))) o kd an ar mX83_parts mX84_sort mX84_x mX84_y mJ2_elementData mJ2_size fu s 0 := fun s hs0 => by
    refine wl2 (fun f s k => wRE_X83_isSafe_58 _ o kd an ar mX83_parts mX84_sort mX84_x mX84_y mJ2_elementData mJ2_size f s k) (fun s k => (0 ≤ k ∧ k ≤ ln r) ∧ ((s = 0 ∧ ¬ reSf hd ki fo ln pt r) ∨ (s = 1 ∧ (reBd ln pt r (hd (3 * r + 1)) ∧ (ki r < 0 → reBd ln pt r (hd (3 * r + 2))) ∧ (¬ ki r < 0 → reBd ln pt r (fo r))) ∧ ∀ j, 0 ≤ j → j < k → ¬ pt (20 * r + 4 * j) = 0 → reBd ln pt r (pt (20 * r + 4 * j + 2)) ∧ reBd ln pt r (pt (20 * r + 4 * j + 3))))) (fun _ k => (ln r - k).toNat) ?_ s 0 ⟨by omega, hs0.elim Or.inl (fun e => Or.inr ⟨e.1, e.2, fun j j0 j1 => by omega⟩)⟩
    rintro s k ⟨hk2, hs1⟩ f ih
    rw [wRE_X83_isSafe_58]
    unfold wpRE_J2_size
    refine kOn_of a2 ⟨a4, ?_⟩
    rw [hs]
    refine ⟨fun z => ?_, fun z => CRE_lget a5 hk2.1 (by omega) (kOn_some ?_)⟩
    · rcases hs1 with ⟨e, y⟩ | ⟨e, y, q⟩
      · rw [e]; exact ⟨Or.inl rfl, h0 y⟩
      · rw [e]; exact ⟨Or.inr rfl, h1 ⟨y.1, y.2.1, y.2.2, fun j j0 j1 => q j j0 (by omega)⟩⟩
    obtain ⟨b1, b2, b3, b4, b5⟩ := a6 k hk2.1 (by omega)
    have nxt0 : ¬ (reBd ln pt r (pt (20 * r + 4 * k + 2)) ∧ reBd ln pt r (pt (20 * r + 4 * k + 3))) → ∀ x1 : Int, x1 = zand s 0 → zR (k + 1) ∧ ∀ x2 : Int, x2 = k + 1 → wRE_X83_isSafe_58 (fun (x1_43 : Int) => (x1_43 = 0 ∨ x1_43 = 1) ∧ ((post x1_43))) o kd an ar mX83_parts mX84_sort mX84_x mX84_y mJ2_elementData mJ2_size f x1 x2 := fun q x1 e1 => ⟨by omega, fun x2 e2 => by
      have z0 : x1 = 0 := by
        rw [e1]
        rcases hs1 with ⟨e, _⟩ | ⟨e, _⟩
        · rw [e]; decide
        · rw [e]; decide
      rw [z0, e2]
      refine ih _ _ ⟨by omega, Or.inl ⟨rfl, fun sf => ?_⟩⟩ (by omega)
      by_cases p0 : pt (20 * r + 4 * k) = 0
      · exact q ⟨Or.inr ⟨k, by omega, p0, Or.inl rfl⟩, Or.inr ⟨k, by omega, p0, Or.inr rfl⟩⟩
      · exact q (sf.2.2.2 k hk2.1 (by omega) p0)⟩
    have nxt1 : (reBd ln pt r (pt (20 * r + 4 * k + 2)) ∧ reBd ln pt r (pt (20 * r + 4 * k + 3))) → ∀ x1 : Int, x1 = s % 2 → zR (k + 1) ∧ ∀ x2 : Int, x2 = k + 1 → wRE_X83_isSafe_58 (fun (x1_43 : Int) => (x1_43 = 0 ∨ x1_43 = 1) ∧ ((post x1_43))) o kd an ar mX83_parts mX84_sort mX84_x mX84_y mJ2_elementData mJ2_size f x1 x2 := fun q x1 e1 => ⟨by omega, fun x2 e2 => by
      have z0 : x1 = s := by omega
      rw [z0, e2]
      refine ih _ _ ⟨by omega, hs1.elim Or.inl (fun ⟨e, y, w⟩ => Or.inr ⟨e, y, fun j j0 j1 => ?_⟩)⟩ (by omega)
      by_cases y2 : j = k
      · rw [y2]; exact fun _ => q
      · exact w j j0 (by omega)⟩
    unfold wpRE_X84_x wpRE_X84_y
    rw [b4]
    refine ⟨b1, CRE_binds I hr H (fun q1 => ⟨fun z => absurd z (by decide), fun _ => CRE_lget a5 hk2.1 (by omega) (kOn_some ⟨b1, ?_⟩)⟩) (fun q1 => ⟨fun _ => nxt0 (fun w => q1 w.1), fun z => absurd rfl z⟩)⟩
    rw [b5]
    exact CRE_binds I hr H (fun q2 => ⟨fun z => absurd z (by decide), fun _ => nxt1 ⟨q1, q2⟩⟩) (fun q2 => ⟨fun _ => nxt0 (fun w => q2 w.2), fun z => absurd rfl z⟩)
  unfold wpRE_X83_isSafe wpRE_X84_x wpRE_X84_y
  refine kOn_of a1 ⟨c1, ?_⟩
  rw [c4, c5, a3, a3']
  refine CRE_binds I hr H (fun q1 => ⟨fun z => absurd z (by decide), fun _ => ⟨fun k0 => ?_, fun k0 => ?_⟩⟩) (fun q1 => ⟨fun _ => loop 0 (Or.inl ⟨rfl, fun z => q1 z.1⟩), fun z => absurd rfl z⟩)
  · exact CRE_binds I hr H (fun q2 => ⟨fun z => absurd z (by decide), fun _ => loop 1 (Or.inr ⟨rfl, q1, fun _ => q2, fun z => absurd (by omega) z⟩)⟩) (fun q2 => ⟨fun _ => loop 0 (Or.inl ⟨rfl, fun z => q2 (z.2.1 (by omega))⟩), fun z => absurd rfl z⟩)
  · exact CRE_binds I hr H (fun q2 => ⟨fun z => absurd z (by decide), fun _ => loop 1 (Or.inr ⟨rfl, q1, fun z => absurd z (by omega), fun _ => q2⟩)⟩) (fun q2 => ⟨fun _ => loop 0 (Or.inl ⟨rfl, fun z => q2 (z.2.2.1 (by omega))⟩), fun z => absurd rfl z⟩)
theorem CRE_safe {post : Int → Prop} {F H_ Li Ro : Int → Nat} {Pa : Int → Int → Nat} (I : reI hd ki fo ln pt n) (r1 : mX35_rules (A 0 0) = some (A 10 0)) (kl : kd (A 10 0) = 7) (R : rxRs kd an ar mX83_head mX83_parts mX83_kind mX83_variable mX84_sort mX84_name mX84_x mX84_y mJ2_elementData mJ2_size (sa 0) A hd ki fo ln pt n e0 F H_ Li Ro Pa) (hb : ¬ (0 ≤ v ∧ v < n) → post (-1)) (h1 : (0 ≤ v ∧ v < n) → reSf hd ki fo ln pt v → post 1) (h0 : (0 ≤ v ∧ v < n) → ¬ reSf hd ki fo ln pt v → post 0) : wpRE_X35_safe post kd an ar mX35_rules mX83_head mX83_parts mX83_kind mX83_variable mX84_sort mX84_x mX84_y mJ2_elementData mJ2_size (A 0 0) v := by
  unfold wpRE_X35_safe
  obtain ⟨R1, R2, _⟩ := R
  refine CRE_isRule r1 kl R1.2.1 (fun v0 v1 => ⟨fun z => absurd z (by decide), fun _ => kOn_of r1 ⟨kl, CRE_lget R1 v0 v1 (kOn_some ⟨(R2 v v0 v1).1.1, CRE_isSafe I ⟨v0, v1⟩ (R2 v v0 v1) (fun q => ⟨fun z => absurd z (by decide), fun _ => h1 ⟨v0, v1⟩ q⟩) (fun q => ⟨fun _ => h0 ⟨v0, v1⟩ q, fun z => absurd rfl z⟩)⟩)⟩⟩) (fun w => ⟨fun _ => hb w, fun z => absurd rfl z⟩)
end
