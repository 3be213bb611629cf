/-! KnowDisk, the component (room KD): deques -/
/-- the place of the i-th in the ring -/
def dqI (cap hd i : Int) : Int := if hd + i < cap then hd + i else hd + i - cap
/-- the deque d holds el 0 .. el (n - 1) -/
def dqD (kd an : Nat → Nat) (ar : Nat → Int → Option Nat) (mE : Nat → Option Nat) (mH mT : Nat → Int) (d e : Nat) (cap hd n : Int) (el : Int → Nat) : Prop :=
  (kd d = 6 ∧ mE d = some e ∧ kd e = 13 ∧ (an e : Int) = cap ∧ 17 ≤ cap ∧ cap ≤ 100000) ∧ (mH d = hd ∧ 0 ≤ hd ∧ hd < cap) ∧ (mT d = dqI cap hd n ∧ 0 ≤ n ∧ n < cap) ∧ ∀ i, 0 ≤ i → i < n → ar e (dqI cap hd i) = some (el i)
theorem dqI_b {cap hd i : Int} (h : 0 ≤ hd ∧ hd < cap) (hi : 0 ≤ i ∧ i < cap) : 0 ≤ dqI cap hd i ∧ dqI cap hd i < cap := by unfold dqI; split <;> omega
theorem dqI_0 {cap hd : Int} (h : 0 ≤ hd ∧ hd < cap) : dqI cap hd 0 = hd := by unfold dqI; rw [if_pos (by omega)]; omega
theorem dqI_s {cap hd i : Int} (h : 0 ≤ hd ∧ hd < cap) (hi : 0 ≤ i ∧ i < cap) : (dqI cap hd i + 1 < cap → dqI cap hd (i + 1) = dqI cap hd i + 1) ∧ (¬ dqI cap hd i + 1 < cap → dqI cap hd (i + 1) = 0) := by
  unfold dqI
  split <;> split <;> omega
theorem dqI_n {cap hd i j : Int} (h : 0 ≤ hd ∧ hd < cap) (hi : 0 ≤ i ∧ i < cap) (hj : 0 ≤ j ∧ j < cap) (e : dqI cap hd i = dqI cap hd j) : i = j := by
  unfold dqI at e
  split at e <;> split at e <;> omega
section
variable {kd : Nat → Nat} {an : Nat → Nat} {ai : Nat → Int → Int} {al : Nat → Int → Int} {ar : Nat → Int → Option Nat} {mX42_disk : Nat → Option Nat} {mX42_count : Nat → Int} {mX42_runs : Nat → Int} {mX42_isFull : Nat → Int} {mX42_places : Nat → Option Nat} {mX42_laid : Nat → Option Nat} {mX42_changed : Nat → Int} {mX42_waiting : Nat → Option Nat} {mX42_states : Nat → Option Nat} {mX42_kept : Nat → Option Nat} {mX43_number : Nat → Int} {mX43_sectors : Nat → Int} {mX63_bytes : Nat → Option Nat} {mX64_to : Nat → Int} {mX64_sector : Nat → Option Nat} {mJ1_modCount : Nat → Int} {mJ2_elementData : Nat → Option Nat} {mJ2_size : Nat → Int} {mJ5_elements : Nat → Option Nat} {mJ5_head : Nat → Int} {mJ5_tail : Nat → Int} {mJ22_cursor : Nat → Int} {mJ22_remaining : Nat → Int} {mJ22_lastRet : Nat → Int} {mJ22_this_0 : Nat → Option Nat} {mJ23_cursor : Nat → Int} {mJ23_lastRet : Nat → Int} {mJ23_expectedModCount : Nat → Int} {mJ23_this_0 : Nat → Option Nat} {sa : Nat → Nat} {d e q x : Nat} {cap hd n i : Int} {el : Int → Nat} {MC MS : Nat} {A B : Prop}
theorem CKD_inc {post : Int → Prop} {y : Int} (h : 0 ≤ y ∧ y < cap) (hc : cap ≤ 100000) (hp : ∀ z, (y + 1 < cap → z = y + 1) → (¬ y + 1 < cap → z = 0) → post z) : wpKD_J5_inc post y cap := by
  unfold wpKD_J5_inc
  exact ⟨by omega, fun z ez => ⟨fun w => hp z (fun _ => ez) (fun w2 => by omega), fun w => hp 0 (fun w2 => by omega) (fun _ => rfl)⟩⟩
theorem CKD_dsize {post : Int → Prop} (D : dqD kd an ar mJ5_elements mJ5_head mJ5_tail d e cap hd n el) (hp : post n) : wpKD_J5_size post kd an mJ5_elements mJ5_head mJ5_tail d := by
  obtain ⟨⟨k, el', ke, ae, c1, c2⟩, ⟨h1, h2, h3⟩, ⟨t1, t2, t3⟩, _⟩ := D
  unfold wpKD_J5_size wpKD_J5_sub
  rw [t1, h1]
  refine kOn_of el' ⟨ke, by omega, ?_⟩
  rw [ae]
  unfold dqI
  split
  · refine ⟨by omega, fun r er => ⟨fun w => ?_, fun w => by omega⟩⟩
    rw [show r = n by omega]; exact hp
  · refine ⟨by omega, fun r er => ⟨fun w => by omega, fun w => ⟨by omega, fun r2 er2 => ?_⟩⟩⟩
    rw [show r2 = n by omega]; exact hp
theorem CKD_dempB (D : dqD kd an ar mJ5_elements mJ5_head mJ5_tail d e cap hd n el) (h1 : n = 0 → B) (h0 : ¬ n = 0 → A) : wpKD_J5_isEmpty (fun r => (r = 0 → A) ∧ (¬ r = 0 → B)) mJ5_head mJ5_tail d := by
  obtain ⟨_, ⟨h1', h2, h3⟩, ⟨t1, t2, t3⟩, _⟩ := D
  unfold wpKD_J5_isEmpty
  rw [t1, h1']
  unfold dqI
  refine ⟨fun w => ⟨fun z => absurd z (by decide), fun _ => h1 ?_⟩, fun w => ⟨fun _ => h0 (fun z => w ?_), fun z => absurd rfl z⟩⟩
  · split at w <;> omega
  · rw [z, if_pos (by omega)]; omega
theorem CKD_diter {post : Option Nat → (Nat → Nat) → (Nat → Int) → (Nat → Int) → (Nat → Int) → (Nat → Option Nat) → Prop} (hM : 1 ≤ MC ∧ 4 ≤ MS) (D : dqD kd an ar mJ5_elements mJ5_head mJ5_tail d e cap hd n el) (H : ∀ q, kd q = 0 → post (some q) (va_up kd q 7) (va_up mJ22_cursor q hd) (va_up mJ22_remaining q n) (va_up mJ22_lastRet q (-1)) (va_up mJ22_this_0 q (some d))) : wpKD_J5_iterator MC MS post kd an mJ5_elements mJ5_head mJ5_tail mJ22_cursor mJ22_remaining mJ22_lastRet mJ22_this_0 d := by
  obtain ⟨⟨k, el', ke, ae, c1, c2⟩, hh, tt, ent⟩ := D
  unfold wpKD_J5_iterator
  refine ⟨by omega, fun q hq c ec r er l el2 t et => ⟨by omega, ?_⟩⟩
  have nd : ¬ d = q := fun z => by rw [z, hq] at k; exact absurd k (by decide)
  have ne : ¬ e = q := fun z => by rw [z, hq] at ke; exact absurd ke (by decide)
  have D2 : dqD (va_up kd q 7) an ar mJ5_elements mJ5_head mJ5_tail d e cap hd n el := ⟨⟨by rw [va_up_ne _ _ nd]; exact k, el', by rw [va_up_ne _ _ ne]; exact ke, ae, c1, c2⟩, hh, tt, ent⟩
  unfold wpKD_J22_init
  intro t2 et2
  refine kOn_of (show t2 q = some d by rw [et2, va_up_self]) ⟨D2.1.1, CKD_dsize D2 (fun r2 er2 l2 el3 => kOn_some ⟨D2.1.1, fun v ev c2 ec2 => ⟨by omega, by omega, ?_⟩⟩)⟩
  rw [er, va_up_up] at er2
  rw [el2, va_up_up] at el3
  rw [ec, va_up_up, ev, hh.1] at ec2
  rw [et, va_up_up] at et2
  rw [er2, el3, ec2, et2]
  exact H q hq
theorem CKD_hasB (kq : kd q = 7) (h1 : 0 < mJ22_remaining q → B) (h0 : ¬ 0 < mJ22_remaining q → A) : wpDKD_J22_hasNext_7_8 (fun r => (r = 0 → A) ∧ (¬ r = 0 → B)) kd mJ2_size mJ22_remaining mJ23_cursor mJ23_this_0 q := by
  unfold wpDKD_J22_hasNext_7_8 wpKD_J22_hasNext
  exact Or.inl ⟨kq, fun w => ⟨fun _ => h0 (by omega), fun z => absurd rfl z⟩, fun w => ⟨fun z => absurd z (by decide), fun _ => h1 (by omega)⟩⟩
theorem CKD_next {post : Option Nat → (Nat → Int) → (Nat → Int) → (Nat → Int) → (Nat → Int) → (Nat → Int) → Prop} (kq : kd q = 7) (D : dqD kd an ar mJ5_elements mJ5_head mJ5_tail d e cap hd n el) (ht : mJ22_this_0 q = some d) (hi : 0 ≤ i ∧ i < n) (hc : mJ22_cursor q = dqI cap hd i) (hr : mJ22_remaining q = n - i) (H : ∀ C R L, C q = dqI cap hd (i + 1) → R q = n - (i + 1) → post (some (el i)) C R L mJ23_cursor mJ23_lastRet) : wpDKD_J22_next_7_8 post kd an ar mJ1_modCount mJ2_elementData mJ2_size mJ5_elements mJ22_cursor mJ22_remaining mJ22_lastRet mJ22_this_0 mJ23_cursor mJ23_lastRet mJ23_expectedModCount mJ23_this_0 q := by
  obtain ⟨⟨k, el', ke, ae, c1, c2⟩, ⟨h1, h2, h3⟩, ⟨t1, t2, t3⟩, ent⟩ := D
  unfold wpDKD_J22_next_7_8 wpKD_J22_next
  have b := dqI_b (i := i) ⟨h2, h3⟩ ⟨hi.1, by omega⟩
  have s := dqI_s (i := i) ⟨h2, h3⟩ ⟨hi.1, by omega⟩
  rw [hc, hr]
  refine Or.inl ⟨kq, fun _ => kOn_of ht ⟨k, fun y ey => ?_⟩, fun w => absurd (by omega) w⟩
  rw [ey, el']
  unfold wpKD_J5_nonNullElementAt
  refine kOn_some ⟨ke, by omega, fun z ez => ⟨fun w => ?_, fun x ex => ?_⟩⟩
  · rw [ez, ent i hi.1 hi.2] at w; exact nomatch w
  rw [ez, ent i hi.1 hi.2] at ex
  cases ex
  rw [ez, ent i hi.1 hi.2]
  refine fun c ec L eL => kOn_some ⟨ke, by omega, ?_⟩
  rw [ec, ae]
  refine CKD_inc b c2 (fun c2' w1 w0 C eC => ⟨by omega, fun r er R eR => H C R L ?_ ?_⟩)
  · rw [eC, va_up_self]
    by_cases w : dqI cap hd i + 1 < cap
    · rw [w1 w, s.1 w]
    · rw [w0 w, s.2 w]
  · rw [eR, va_up_self, er]; omega
theorem CKD_dlast {post : Option Nat → Prop} (D : dqD kd an ar mJ5_elements mJ5_head mJ5_tail d e cap hd n el) (hn : 1 ≤ n) (hp : post (some (el (n - 1)))) : wpKD_J5_peekLast post kd an ar mJ5_elements mJ5_tail d := by
  obtain ⟨⟨k, el', ke, ae, c1, c2⟩, ⟨h1, h2, h3⟩, ⟨t1, t2, t3⟩, ent⟩ := D
  unfold wpKD_J5_peekLast
  intro r er
  rw [er, el']
  have b := dqI_b (i := n - 1) ⟨h2, h3⟩ (by omega)
  have s := dqI_s (i := n - 1) ⟨h2, h3⟩ (by omega)
  rw [show n - 1 + 1 = n by omega] at s
  have at_ : ∀ y : Int, y = dqI cap hd (n - 1) → wpKD_J5_elementAt (fun (r_7 : Option Nat) => post r_7) kd an ar (some e) y := fun y ey => by
    unfold wpKD_J5_elementAt
    refine kOn_some ⟨ke, by omega, fun z ez => ?_⟩
    rw [ez, ey, ent (n - 1) (by omega) (by omega)]; exact hp
  refine kOn_some ⟨ke, by omega, ?_⟩
  rw [t1, ae]
  unfold wpKD_J5_dec
  refine ⟨?_, fun y ey => ⟨fun w => at_ _ ?_, fun w => ⟨by omega, fun y2 ey2 => at_ _ ?_⟩⟩⟩
  · by_cases w : dqI cap hd (n - 1) + 1 < cap
    · rw [s.1 w]; omega
    · rw [s.2 w]; decide
  · by_cases w2 : dqI cap hd (n - 1) + 1 < cap
    · have := s.1 w2; omega
    · have := s.2 w2; omega
  · by_cases w2 : dqI cap hd (n - 1) + 1 < cap
    · have := s.1 w2; omega
    · omega
/-- the first is taken -/
theorem CKD_dpoll {post : Option Nat → (Nat → Int → Option Nat) → (Nat → Int) → Prop} (D : dqD kd an ar mJ5_elements mJ5_head mJ5_tail d e cap hd n el) (hn : 1 ≤ n) (H : ∀ (g : Int → Option Nat) (hd' : Int), dqD kd an (va_up ar e g) mJ5_elements (va_up mJ5_head d hd') mJ5_tail d e cap hd' (n - 1) (fun i => el (i + 1)) → post (some (el 0)) (va_up ar e g) (va_up mJ5_head d hd')) : wpKD_J5_poll post kd an ar mJ5_elements mJ5_head d := by
  have D0 := D
  obtain ⟨⟨k, el', ke, ae, c1, c2⟩, ⟨h1, h2, h3⟩, ⟨t1, t2, t3⟩, ent⟩ := D
  unfold wpKD_J5_poll wpKD_J5_pollFirst wpKD_J5_elementAt
  intro r er h eh
  have e0 := ent 0 (by decide) (by omega)
  rw [dqI_0 ⟨h2, h3⟩] at e0
  rw [er, el', eh, h1]
  refine kOn_some ⟨ke, by omega, fun z ez => ⟨fun w => ?_, fun x ex => ?_⟩⟩
  · rw [ez, e0] at w; exact nomatch w
  rw [ez, e0]
  refine kOn_some ⟨ke, by omega, fun a ea => ⟨by omega, ?_⟩⟩
  rw [ae]
  refine CKD_inc ⟨h2, h3⟩ c2 (fun hd' w1 w0 m em => ?_)
  have hd1 : hd' = dqI cap hd 1 := by
    unfold dqI
    by_cases w : hd + 1 < cap
    · rw [w1 w, if_pos w]
    · rw [w0 w, if_neg w]; omega
  have sh : ∀ i, 0 ≤ i → i < cap - 1 → dqI cap hd' i = dqI cap hd (i + 1) := fun i i0 i1 => by
    rw [hd1]
    unfold dqI
    split <;> split <;> (try split) <;> omega
  rw [ea, em]
  refine H _ _ ⟨⟨k, el', ke, ae, c1, c2⟩, ⟨va_up_self _ _ _, ?_, ?_⟩, ⟨?_, by omega, by omega⟩, fun i i0 i1 => ?_⟩
  · rw [hd1]; exact (dqI_b ⟨h2, h3⟩ (by omega)).1
  · rw [hd1]; exact (dqI_b ⟨h2, h3⟩ (by omega)).2
  · rw [t1, sh (n - 1) (by omega) (by omega), show n - 1 + 1 = n by omega]
  · rw [va_up_self, sh i i0 (by omega), updI_n, ent (i + 1) (by omega) (by omega)]
    intro z
    have := dqI_n (i := i + 1) (j := 0) ⟨h2, h3⟩ (by omega) (by omega) (by rw [z, dqI_0 ⟨h2, h3⟩])
    omega
end

/-! KnowDisk, the component: deques grow, are cleared; lists gone over and cleared -/
section
variable {kd : Nat → Nat} {an : Nat → Nat} {ai : Nat → Int → Int} {al : Nat → Int → Int} {ar : Nat → Int → Option Nat} {mX42_disk : Nat → Option Nat} {mX42_count : Nat → Int} {mX42_runs : Nat → Int} {mX42_isFull : Nat → Int} {mX42_places : Nat → Option Nat} {mX42_laid : Nat → Option Nat} {mX42_changed : Nat → Int} {mX42_waiting : Nat → Option Nat} {mX42_states : Nat → Option Nat} {mX42_kept : Nat → Option Nat} {mX43_number : Nat → Int} {mX43_sectors : Nat → Int} {mX63_bytes : Nat → Option Nat} {mX64_to : Nat → Int} {mX64_sector : Nat → Option Nat} {mJ1_modCount : Nat → Int} {mJ2_elementData : Nat → Option Nat} {mJ2_size : Nat → Int} {mJ5_elements : Nat → Option Nat} {mJ5_head : Nat → Int} {mJ5_tail : Nat → Int} {mJ22_cursor : Nat → Int} {mJ22_remaining : Nat → Int} {mJ22_lastRet : Nat → Int} {mJ22_this_0 : Nat → Option Nat} {mJ23_cursor : Nat → Int} {mJ23_lastRet : Nat → Int} {mJ23_expectedModCount : Nat → Int} {mJ23_this_0 : Nat → Option Nat} {sa : Nat → Nat} {d e q x l : Nat} {cap hd n i : Int} {el f : Int → Nat} {MC MS kc ks : Nat} {A B : Prop}
/-- what lies at a place of a full ring -/
def dqP (cap hd : Int) (el : Int → Nat) (j : Int) : Nat := if hd ≤ j then el (j - hd) else el (j - hd + cap)
theorem dqP_i {j : Int} (h : 0 ≤ hd ∧ hd < cap) (hj : 0 ≤ j ∧ j < cap) : ∃ i, (0 ≤ i ∧ i < cap) ∧ j = dqI cap hd i ∧ dqP cap hd el j = el i := by
  unfold dqP
  by_cases w : hd ≤ j
  · rw [if_pos w]
    exact ⟨j - hd, by omega, by unfold dqI; rw [if_pos (by omega)]; omega, rfl⟩
  · rw [if_neg w]
    exact ⟨j - hd + cap, by omega, by unfold dqI; rw [if_neg (by omega)]; omega, rfl⟩
theorem CKD_g145 {K : (Nat → Int → Option Nat) → Prop} {lo hi c : Int} {g : Int → Option Nat} (ke : kd e = 13) (ae : (an e : Int) = c) (h0 : 0 ≤ lo) (h1 : lo ≤ hi ∧ hi ≤ c) (hc : c ≤ 1000000) (hp : ∀ g', (∀ j, (j < lo ∨ hi ≤ j) → g' j = g j) → K (va_up ar e g')) : ∃ fu : Nat, wKD_J5_grow_145 MC MS K (some e) hi kd an fu lo (va_up ar e g) := by
  refine wl2 (fun u y a => wKD_J5_grow_145 MC MS K (some e) hi kd an u y a) (fun y a => (lo ≤ y ∧ y ≤ hi) ∧ ∃ g', a = va_up ar e g' ∧ ∀ j, (j < lo ∨ hi ≤ j) → g' j = g j) (fun y _ => (hi - y).toNat) ?_ lo (va_up ar e g) ⟨by omega, g, rfl, fun _ _ => rfl⟩
  rintro y a ⟨hy, g', ea, hg⟩ u ih
  rw [wKD_J5_grow_145]
  refine ⟨fun w => ?_, fun w => kOn_some ⟨ke, by omega, fun a2 ea2 => ⟨by omega, fun y2 ey => ?_⟩⟩⟩
  · rw [ea]; exact hp g' hg
  · subst ey
    rw [ea, va_up_self, va_up_up] at ea2
    exact ih _ _ ⟨by omega, _, ea2, fun j hj => by rw [updI_n (by omega)]; exact hg j hj⟩ (by omega)
/-- one more behind the last -/
theorem CKD_dadd {post : Int → (Nat → Nat) → (Nat → Nat) → (Nat → Int → Option Nat) → (Nat → Option Nat) → (Nat → Int) → (Nat → Int) → Prop} (hM : 1 ≤ MC ∧ 2 * n + 10 ≤ MS) (D : dqD kd an ar mJ5_elements mJ5_head mJ5_tail d e cap hd n el) (hn : n ≤ 10000) (hk : ∀ i, 0 ≤ i → i < n → kd (el i) = 2 ∨ kd (el i) = 4) (hx : kd x = 2 ∨ kd x = 4)
    (H : ∀ kd' an' ar' E' H' T' e' cap' hd', kLe kd an kd' an' → dqD kd' an' ar' E' H' T' d e' cap' hd' (n + 1) (updI el n x) → ((e' = e ∧ kd' = kd ∧ an' = an) ∨ (kd e' = 0 ∧ kd' = va_up kd e' 13 ∧ ∃ m, an' = va_up an e' m)) → (∀ a, ¬ a = e' → ¬ a = e → ar' a = ar a) → (∀ a, ¬ a = d → E' a = mJ5_elements a ∧ H' a = mJ5_head a ∧ T' a = mJ5_tail a) → post 1 kd' an' ar' E' H' T') : wpKD_J5_add MC MS post kd an ar mJ5_elements mJ5_head mJ5_tail sa d (some x) := by
  have nl := Nat.zero_le
  obtain ⟨⟨k, el', ke, ae, c1, c2⟩, ⟨h1, h2, h3⟩, ⟨t1, t2, t3⟩, ent⟩ := D
  have tb := dqI_b (i := n) ⟨h2, h3⟩ (by omega)
  unfold wpKD_J5_add
  refine ⟨MC, MS, by omega, ?_⟩
  unfold wpKD_J5_addLast
  refine ⟨fun w => (nomatch w), fun b eb y ey => ?_⟩
  cases eb
  rw [ey, el']
  refine kOn_some ⟨ke, by rw [t1]; omega, hx, fun a ea => ⟨by omega, ⟨nl _, nl _⟩, ?_⟩⟩
  rw [t1] at ea ⊢
  rw [ae]
  -- entries after the store
  have ent1 : ∀ i, 0 ≤ i → i < n + 1 → a e (dqI cap hd i) = some (updI el n x i) := fun i i0 i1 => by
    rw [ea, va_up_self]
    by_cases z : i = n
    · rw [z, updI_s, updI_s]
    · rw [updI_n (fun w => z (dqI_n ⟨h2, h3⟩ (by omega) (by omega) w)), updI_n z]
      exact ent i i0 (by omega)
  have hk1 : ∀ i, 0 ≤ i → i < n + 1 → kd (updI el n x i) = 2 ∨ kd (updI el n x i) = 4 := fun i i0 i1 => by
    by_cases z : i = n
    · rw [z, updI_s]; exact hx
    · rw [updI_n z]; exact hk i i0 (by omega)
  have od : ∀ g, ∀ z, ¬ z = e → va_up ar e g z = ar z := fun g z hz => va_up_ne _ _ hz
  refine CKD_inc tb c2 (fun t' w1 w0 T eT => ⟨fun full => ?_, fun nf => ⟨nl _, nl _, fun _ => ⟨by omega, by omega, ?_⟩⟩⟩)
  rotate_left
  · -- there is room
    have n1 : n + 1 < cap := by
      apply Int.not_le.mp
      intro w
      have : n + 1 = cap := by omega
      refine nf ?_
      rw [h1]
      by_cases w2 : dqI cap hd n + 1 < cap
      · rw [w1 w2]
        unfold dqI at w2 ⊢
        split at w2 <;> (rename_i z; first | rw [if_pos z] | rw [if_neg z]) <;> omega
      · rw [w0 w2]
        unfold dqI at w2
        split at w2 <;> omega
    refine H kd an a _ _ _ e cap hd (fun a _ => ⟨rfl, rfl⟩) ⟨⟨k, el', ke, ae, c1, c2⟩, ⟨h1, h2, h3⟩, ⟨?_, by omega, n1⟩, ent1⟩ (Or.inl ⟨rfl, rfl, rfl⟩) (fun z z1 _ => by rw [ea]; exact od _ z z1) (fun z hz => ⟨rfl, rfl, by rw [eT]; exact va_up_ne _ _ hz⟩)
    rw [eT, va_up_self]
    have s := dqI_s (i := n) ⟨h2, h3⟩ (by omega)
    by_cases w2 : dqI cap hd n + 1 < cap
    · rw [w1 w2, s.1 w2]
    · rw [w0 w2, s.2 w2]
  -- the ring is full
  rw [h1] at full
  have nc : n + 1 = cap := by
    have s := dqI_s (i := n) ⟨h2, h3⟩ (by omega)
    by_cases w2 : dqI cap hd n + 1 < cap
    · rw [w1 w2] at full
      unfold dqI at full w2
      split at full <;> omega
    · rw [w0 w2] at full
      unfold dqI at w2
      split at w2 <;> omega
  have Tt : T d = hd := by rw [eT, va_up_self]; exact full.symm
  have entP : ∀ j, 0 ≤ j → j < cap → a e j = some (dqP cap hd (updI el n x) j) := fun j j0 j1 => by
    obtain ⟨i, hi, e1, e2⟩ := dqP_i (el := updI el n x) (j := j) ⟨h2, h3⟩ ⟨j0, j1⟩
    rw [e2, e1]; exact ent1 i hi.1 (by omega)
  have hkP : ∀ j, 0 ≤ j → j < cap → ekKD (kd (dqP cap hd (updI el n x) j)) := fun j j0 j1 => by
    obtain ⟨i, hi, e1, e2⟩ := dqP_i (el := updI el n x) (j := j) ⟨h2, h3⟩ ⟨j0, j1⟩
    rw [e2]; exact hk1 i hi.1 (by omega)
  have g49 : ∀ m : Int, (cap + 2 ≤ m ∨ cap + cap / 2 ≤ m) → cap < m → m ≤ 2 * cap + 2 → wKD_J5_grow_49 MC MS (fun (kd_14 : Nat → Nat) (an_15 : Nat → Nat) (ar_16 : Nat → Int → Option Nat) (E_17 : Nat → Option Nat) (H_18 : Nat → Int) => kLe kd an kd_14 an_15 → (0 + MC ≤ MC ∧ 0 + MS ≤ MS ∧ (kLe kd an kd_14 an_15 → (0 + MC ≤ MC ∧ 0 + MS ≤ MS ∧ post 1 kd_14 an_15 ar_16 E_17 H_18 T)))) d cap m kd an a mJ5_elements mJ5_head T sa 0 0 := fun m _ m1 m2 => by
    unfold wKD_J5_grow_49
    rw [el']
    refine ⟨1, m.toNat, by omega, CKD_copyOf (n := cap) (f := dqP cap hd (updI el n x)) ke ae (by omega) (by omega) (Nat.le_refl 1) (Nat.le_refl _) entP hkP (fun q hq g hg le E eE => ?_)⟩
    rw [Tt, h1]
    refine ⟨fun w => absurd w (Int.lt_irrefl _), fun _ => ⟨fun _ => ?_, fun w => absurd rfl w⟩⟩
    have kq : va_up kd q 13 q = 13 := va_up_self _ _ _
    have aq : ((va_up an q m.toNat q : Nat) : Int) = m := by rw [va_up_self]; omega
    have nd : ¬ d = q := fun z => by rw [z, hq] at k; exact absurd k (by decide)
    refine kOn_some ⟨kq, by omega, fun r er => ⟨fun w => ?_, fun y ey => ?_⟩⟩
    · rw [er, va_up_self, hg hd h2 h3] at w; exact nomatch w
    unfold wKD_J5_grow_96
    refine ⟨by omega, fun sp esp => ?_⟩
    rw [h1]
    refine ⟨by omega, by omega, kOn_some ⟨kq, by omega, fun j j0 j1 z ez => ?_, fun a2 ea2 lo elo hi' ehi Hd eHd => ?_⟩⟩
    · rw [va_up_self, hg (hd + j) (by omega) (by omega)] at ez
      have kk := hkP (hd + j) (by omega) (by omega)
      have e3 : dqP cap hd (updI el n x) (hd + j) = z := Option.some.inj ez
      rw [e3] at kk
      have zq : ¬ z = q := fun w => by
        rw [w, hq] at kk
        revert kk
        unfold ekKD
        omega
      rw [va_up_ne _ _ zq]; exact kk
    · rw [elo, ea2, va_up_self, va_up_up]
      have ehi' : hi' = hd + (m - cap) := by omega
      refine CKD_g145 (c := m) kq aq h2 (by omega) (by omega) (fun g' hg' => ⟨by omega, by omega, fun le2 => ⟨by omega, by omega, fun _ => ⟨by omega, by omega, ?_⟩⟩⟩)
      have ne : ¬ e = q := fun z => by rw [z, hq] at ke; exact absurd ke (by decide)
      refine H _ _ _ _ _ _ q m hi' le2 ⟨⟨by rw [va_up_ne _ _ nd]; exact k, by rw [eE, va_up_self], kq, aq, by omega, by omega⟩, ⟨by rw [eHd, va_up_self], by omega, by omega⟩, ⟨?_, by omega, by omega⟩, fun i i0 i1 => ?_⟩ (Or.inr ⟨hq, rfl, _, rfl⟩) (fun z z1 z2 => ?_) (fun z hz => ⟨by rw [eE]; exact va_up_ne _ _ hz, by rw [eHd]; exact va_up_ne _ _ hz, by rw [eT]; exact va_up_ne _ _ hz⟩)
      · rw [Tt]
        unfold dqI
        rw [if_neg (by omega)]; omega
      · rw [va_up_self]
        by_cases w : i < cap - hd
        · have e4 : dqI m hi' i = hd + (m - cap) + i := by unfold dqI; rw [if_pos (by omega), ehi']
          rw [e4, hg' _ (Or.inr (by omega))]
          unfold zcpy
          rw [if_pos (by omega), show hd + (hd + (m - cap) + i - (hd + sp)) = hd + i by omega, hg _ (by omega) (by omega)]
          unfold dqP
          rw [if_pos (by omega), show hd + i - hd = i by omega]
        · have e4 : dqI m hi' i = hd + i - cap := by unfold dqI; rw [if_neg (by omega), ehi']; omega
          rw [e4, hg' _ (Or.inl (by omega))]
          unfold zcpy
          rw [if_neg (by omega), hg _ (by omega) (by omega)]
          unfold dqP
          rw [if_neg (by omega), show hd + i - cap - hd + cap = i by omega]
      · rw [va_up_ne _ _ z1, ea, va_up_ne _ _ z2]
  refine ⟨MC, MS, by omega, ?_⟩
  unfold wpKD_J5_grow
  rw [el']
  refine kOn_some ⟨ke, by omega, fun c ec => ?_⟩
  rw [ec, ae]
  have g21 : ∀ jp : Int, (1 ≤ jp) → (cap + 2 ≤ cap + jp ∨ cap + cap / 2 ≤ cap + jp) → jp ≤ cap + 2 → wKD_J5_grow_21 MC MS (fun (kd_14 : Nat → Nat) (an_15 : Nat → Nat) (ar_16 : Nat → Int → Option Nat) (E_17 : Nat → Option Nat) (H_18 : Nat → Int) => kLe kd an kd_14 an_15 → (0 + MC ≤ MC ∧ 0 + MS ≤ MS ∧ (kLe kd an kd_14 an_15 → (0 + MC ≤ MC ∧ 0 + MS ≤ MS ∧ post 1 kd_14 an_15 ar_16 E_17 H_18 T)))) d 1 cap jp kd an a mJ5_elements mJ5_head T sa 0 0 := fun jp j1 j2 j3 => by
    unfold wKD_J5_grow_21
    refine ⟨fun w => by omega, fun _ => ⟨by omega, fun m em => ⟨by omega, fun _ => g49 m (by omega) (by omega) (by omega), fun w => by omega⟩⟩⟩
  exact ⟨fun w => g21 (cap / 2) (by omega) (Or.inr (by omega)) (by omega), fun w => ⟨by omega, g21 (cap + 2) (by omega) (Or.inl (by omega)) (by omega)⟩⟩
theorem CKD_dclear {post : (Nat → Int → Option Nat) → (Nat → Int) → (Nat → Int) → Prop} (D : dqD kd an ar mJ5_elements mJ5_head mJ5_tail d e cap hd n el) (H : ∀ g, dqD kd an (va_up ar e g) mJ5_elements (va_up mJ5_head d 0) (va_up mJ5_tail d 0) d e cap 0 0 el → post (va_up ar e g) (va_up mJ5_head d 0) (va_up mJ5_tail d 0)) : wpKD_J5_clear post kd an ar mJ5_elements mJ5_head mJ5_tail d := by
  obtain ⟨⟨k, el', ke, ae, c1, c2⟩, ⟨h1, h2, h3⟩, ⟨t1, t2, t3⟩, ent⟩ := D
  have tb := dqI_b (i := n) ⟨h2, h3⟩ (by omega)
  unfold wpKD_J5_clear wpKD_J5_circularClear
  rw [el', h1, t1]
  have a0 : ar = va_up ar e (ar e) := funext fun z => by
    by_cases w : z = e
    · rw [w, va_up_self]
    · rw [va_up_ne _ _ w]
  generalize dqI cap hd n = t at tb
  have fin : ∀ g, ∀ T : Nat → Int, T = va_up mJ5_tail d 0 → ∀ h : Nat → Int, h = va_up mJ5_head d 0 → post (va_up ar e g) h T := fun g T eT h eh => by
    rw [eT, eh]
    refine H g ⟨⟨k, el', ke, ae, c1, c2⟩, ⟨va_up_self _ _ _, by decide, by omega⟩, ⟨?_, by decide, by omega⟩, fun i i0 i1 => by omega⟩
    rw [va_up_self, dqI_0 (by omega)]
  have loop : ∀ x1 x3 : Int, 0 ≤ x1 → (x3 = t ∨ (x3 = cap ∧ x1 ≤ cap)) → ∃ fu : Nat, wKD_J5_circularClear_12 (fun (ar_14 : Nat → Int → Option Nat) => (∀ T_3 : Nat → Int, T_3 = va_up mJ5_tail d 0 → (∀ H_4 : Nat → Int, H_4 = va_up mJ5_head d 0 → (post ar_14 H_4 T_3)))) (some e) t kd an fu x1 x3 ar := fun x1 x3 p1 p2 => by
    refine wl3 (fun u y z a => wKD_J5_circularClear_12 _ (some e) t kd an u y z a) (fun y z a => 0 ≤ y ∧ (z = t ∨ (z = cap ∧ y ≤ cap)) ∧ ∃ g, a = va_up ar e g) (fun y z _ => ((if z = t then 0 else cap + 1) + (if y ≤ z then z - y else 0)).toNat) ?_ x1 x3 ar ⟨p1, p2, _, a0⟩
    rintro y z a ⟨hy, hz, g, ea⟩ u ih
    rw [wKD_J5_circularClear_12]
    refine ⟨fun w => ⟨fun w2 => ?_, fun w2 => ?_⟩, fun w => kOn_some ⟨ke, by omega, fun a2 ea2 => ⟨by omega, fun y2 ey => ?_⟩⟩⟩
    · rw [ea]
      exact fun T eT h eh => fin g T eT h eh
    · refine ih 0 t a ⟨Int.le_refl 0, Or.inl rfl, g, ea⟩ ?_
      rw [if_pos rfl, if_neg w2, if_pos (by omega)]
      split <;> omega
    · subst ey
      rw [ea, va_up_self, va_up_up] at ea2
      refine ih _ _ _ ⟨by omega, by omega, _, ea2⟩ ?_
      rw [if_pos (show y ≤ z by omega), if_pos (show y + 1 ≤ z by omega)]
      split <;> omega
  refine ⟨fun w => kOn_some ⟨ke, by omega, fun c ec => ?_⟩, fun w => loop hd t h2 (Or.inl rfl)⟩
  rw [ec, ae]
  exact loop hd cap h2 (Or.inr ⟨rfl, by omega⟩)
/-- lists -/
theorem CKD_liter {post : Option Nat → (Nat → Nat) → (Nat → Int) → (Nat → Int) → (Nat → Int) → (Nat → Option Nat) → Prop} (hM : 1 ≤ MC ∧ 4 ≤ MS) (kl : kd l = 5) (H : ∀ q, kd q = 0 → post (some q) (va_up kd q 8) (va_up mJ23_cursor q 0) (va_up mJ23_lastRet q (-1)) (va_up mJ23_expectedModCount q (mJ1_modCount l)) (va_up mJ23_this_0 q (some l))) : wpKD_J2_iterator MC MS post kd mJ1_modCount mJ23_cursor mJ23_lastRet mJ23_expectedModCount mJ23_this_0 l := by
  unfold wpKD_J2_iterator
  refine ⟨by omega, fun q hq c ec r er x ex t et => ⟨by omega, ?_⟩⟩
  have nq : ¬ l = q := fun z => by rw [z, hq] at kl; exact absurd kl (by decide)
  unfold wpKD_J23_init
  intro t2 et2 r2 er2
  refine kOn_of (show t2 q = some l by rw [et2, va_up_self]) ⟨by rw [va_up_ne _ _ nq]; exact kl, fun v ev x2 ex2 => ⟨by omega, by omega, ?_⟩⟩
  rw [er, va_up_up] at er2
  rw [ex, va_up_up, ev] at ex2
  rw [et, va_up_up] at et2
  rw [ec, er2, ex2, et2]
  exact H q hq
theorem CKD_lhasB (kq : kd q = 8) (kl : kd l = 5) (ht : mJ23_this_0 q = some l) (h1 : ¬ mJ23_cursor q = mJ2_size l → B) (h0 : mJ23_cursor q = mJ2_size l → A) : wpDKD_J22_hasNext_7_8 (fun r => (r = 0 → A) ∧ (¬ r = 0 → B)) kd mJ2_size mJ22_remaining mJ23_cursor mJ23_this_0 q := by
  unfold wpDKD_J22_hasNext_7_8 wpKD_J23_hasNext
  exact Or.inr ⟨kq, kOn_of ht ⟨kl, fun w => ⟨fun _ => h0 w, fun z => absurd rfl z⟩, fun w => ⟨fun z => absurd z (by decide), fun _ => h1 w⟩⟩⟩
theorem CKD_lnext {post : Option Nat → (Nat → Int) → (Nat → Int) → (Nat → Int) → (Nat → Int) → (Nat → Int) → Prop} (kq : kd q = 8) (kl : kd l = 5) (L : lsOK kd an ar mJ2_elementData mJ2_size 13 (sa 0) l e n f) (hn : n ≤ 10000) (ht : mJ23_this_0 q = some l) (hx : mJ23_expectedModCount q = mJ1_modCount l) (hi : 0 ≤ i ∧ i < n) (hc : mJ23_cursor q = i) (H : ∀ C R, C q = i + 1 → post (some (f i)) mJ22_cursor mJ22_remaining mJ22_lastRet C R) : wpDKD_J22_next_7_8 post kd an ar mJ1_modCount mJ2_elementData mJ2_size mJ5_elements mJ22_cursor mJ22_remaining mJ22_lastRet mJ22_this_0 mJ23_cursor mJ23_lastRet mJ23_expectedModCount mJ23_this_0 q := by
  obtain ⟨ke, na, ent⟩ := L.at hi.1 hi.2
  have hs := L.2.1
  have hb : an e ≤ 100000 := by
    rcases L.2.2.2.1 with w | w
    · exact w.2.1.2
    · omega
  unfold wpDKD_J22_next_7_8 wpKD_J23_next wpKD_J23_checkForComodification
  refine Or.inr ⟨kq, kOn_of ht ⟨kl, fun _ => ?_, fun w => absurd hx.symm w⟩⟩
  intro x ex
  rw [hc] at ex
  refine kOn_of ht ⟨kl, fun w => ?_, fun w => by omega⟩
  intro y ey
  rw [ey, L.1]
  refine kOn_some ⟨ke, by omega, fun w2 => ⟨by omega, fun v ev C eC R eR => ⟨by omega, fun r er => ?_⟩⟩, fun w2 => by omega⟩
  rw [er, ex, ent]
  exact H C R (by rw [eC, va_up_self, ev, ex])
theorem CKD_lclear {post : (Nat → Int → Option Nat) → (Nat → Int) → (Nat → Int) → Prop} (L : lsOK kd an ar mJ2_elementData mJ2_size 13 (sa 0) l e n f) (hn : n ≤ 10000) (hmo : 0 ≤ mJ1_modCount l ∧ mJ1_modCount l ≤ 1000000) (H : ∀ g, (n = 0 → g = ar e) → post (va_up ar e g) (va_up mJ1_modCount l (mJ1_modCount l + 1)) (va_up mJ2_size l 0)) : wpKD_J2_clear post kd an ar mJ1_modCount mJ2_elementData mJ2_size l := by
  have n0 := L.2.2.1
  unfold wpKD_J2_clear
  refine ⟨by omega, fun v ev m em x ex y ey s es => ?_⟩
  rw [L.1] at ex
  rw [L.2.1] at ey
  rw [ex, ey, em, ev, es]
  have a0 : ar = va_up ar e (ar e) := funext fun z => by
    by_cases w : z = e
    · rw [w, va_up_self]
    · rw [va_up_ne _ _ w]
  refine wl2 (fun u y a => wKD_J2_clear_27 _ (some e) n kd an u y a) (fun y a => (0 ≤ y ∧ y ≤ n) ∧ ∃ g, a = va_up ar e g ∧ (n = 0 → g = ar e)) (fun y _ => (n - y).toNat) ?_ 0 ar ⟨by omega, _, a0, fun _ => rfl⟩
  rintro y a ⟨hy, g, ea, hg⟩ u ih
  rw [wKD_J2_clear_27]
  refine ⟨fun w => by rw [ea]; exact H g hg, fun w => ?_⟩
  obtain ⟨ke, na, _⟩ := L.at (i := y) hy.1 (by omega)
  refine kOn_some ⟨ke, by omega, fun a2 ea2 => ⟨by omega, fun y2 ey => ?_⟩⟩
  subst ey
  rw [ea, va_up_self, va_up_up] at ea2
  exact ih _ _ ⟨by omega, _, ea2, fun z => by omega⟩ (by omega)
end

/-! KnowDisk, the component: the room's state; what is looked at -/
/-- a sector s, its bytes b: from lo on they are f -/
def kdSe (kd an : Nat → Nat) (ai : Nat → Int → Int) (mB : Nat → Option Nat) (lo : Int) (s b : Nat) (f : Int → Int) : Prop := kd s = 3 ∧ mB s = some b ∧ kd b = 10 ∧ an b = 32 ∧ ∀ i, 0 ≤ i → i < 32 → (-128 ≤ ai b i ∧ ai b i < 128) ∧ (lo ≤ i → ai b i % 256 = f i)
def kdC1 (kd an : Nat → Nat) (ai : Nat → Int → Int) (mD : Nat → Option Nat) (mC mR mF mG : Nat → Int) (x dq : Nat) (dk : Int → Int) (ru fu ch : Int) : Prop := (kd x = 1 ∧ mD x = some dq ∧ kd dq = 10 ∧ an dq = 1536) ∧ (mC x = 48 ∧ mR x = ru ∧ mF x = fu ∧ mG x = ch) ∧ ∀ i, 0 ≤ i → i < 1536 → (-128 ≤ ai dq i ∧ ai dq i < 128) ∧ ai dq i % 256 = dk i
def kdC2 (kd an : Nat → Nat) (ai : Nat → Int → Int) (mP : Nat → Option Nat) (x pq : Nat) (pl : Int → Int) : Prop := (mP x = some pq ∧ kd pq = 9 ∧ an pq = 30) ∧ ∀ p, 0 ≤ p → p < 30 → ai pq p = pl p
def kdC3 (kd an : Nat → Nat) (ai : Nat → Int → Int) (ar : Nat → Int → Option Nat) (mL mB : Nat → Option Nat) (x lq : Nat) (ls lb : Int → Nat) (ld op : Int → Int) : Prop := (mL x = some lq ∧ kd lq = 12 ∧ an lq = 64) ∧ (∀ k, 0 ≤ k → k < 64 → ar lq k = if ld k = 0 then none else some (ls k)) ∧ ∀ k, 0 ≤ k → k < 64 → ¬ ld k = 0 → kdSe kd an ai mB 4 (ls k) (lb k) (fun i => op (32 * k + i))
def kdC4 (kd an : Nat → Nat) (ai : Nat → Int → Int) (ar : Nat → Int → Option Nat) (mW : Nat → Option Nat) (mT : Nat → Int) (mS mB mE : Nat → Option Nat) (mH mL : Nat → Int) (x d e : Nat) (cap hd : Int) (w ws wb : Int → Nat) (fi be : Int) (tg by' : Int → Int) : Prop := mW x = some d ∧ dqD kd an ar mE mH mL d e cap hd (be - fi) w ∧ ∀ i, 0 ≤ i → i < be - fi → (kd (w i) = 4 ∧ mT (w i) = tg (fi + i) ∧ mS (w i) = some (ws i)) ∧ kdSe kd an ai mB 0 (ws i) (wb i) (fun j => by' (32 * (fi + i) + j))
def kdC5 (kd an : Nat → Nat) (ar : Nat → Int → Option Nat) (mS : Nat → Option Nat) (mN mU : Nat → Int) (mE : Nat → Option Nat) (mH mL : Nat → Int) (x d e : Nat) (cap hd : Int) (w : Int → Nat) (ol nw : Int) (nu se : Int → Int) : Prop := mS x = some d ∧ dqD kd an ar mE mH mL d e cap hd (nw - ol + 1) w ∧ ∀ i, 0 ≤ i → i ≤ nw - ol → kd (w i) = 2 ∧ mN (w i) = nu (ol + i) ∧ mU (w i) = se (ol + i)
def kdC6 (kd an : Nat → Nat) (ar : Nat → Int → Option Nat) (sa : Nat → Nat) (mK : Nat → Option Nat) (mN mU : Nat → Int) (mE : Nat → Option Nat) (mZ mM : Nat → Int) (x l e : Nat) (w : Int → Nat) (kn : Int) (ku ks : Int → Int) : Prop := (mK x = some l ∧ kd l = 5) ∧ lsOK kd an ar mE mZ 13 (sa 0) l e kn w ∧ (0 ≤ mM l ∧ mM l ≤ 90000) ∧ ∀ i, 0 ≤ i → i < kn → kd (w i) = 2 ∧ mN (w i) = ku i ∧ mU (w i) = ks i
/-- old cells are as they were -/
def kdK4 (kd an : Nat → Nat) (ai : Nat → Int → Int) (mB : Nat → Option Nat) (kd' an' : Nat → Nat) (ai' : Nat → Int → Int) (mB' : Nat → Option Nat) : Prop := ∀ r, ¬ kd r = 0 → kd' r = kd r ∧ an' r = an r ∧ ai' r = ai r ∧ mB' r = mB r
theorem kdK4.rfl {kd an : Nat → Nat} {ai : Nat → Int → Int} {mB : Nat → Option Nat} : kdK4 kd an ai mB kd an ai mB := fun _ _ => ⟨_root_.rfl, _root_.rfl, _root_.rfl, _root_.rfl⟩
theorem kdK4.trans {kd an kd' an' kd'' an'' : Nat → Nat} {ai ai' ai'' : Nat → Int → Int} {mB mB' mB'' : Nat → Option Nat} (H : kdK4 kd an ai mB kd' an' ai' mB') (J : kdK4 kd' an' ai' mB' kd'' an'' ai'' mB'') : kdK4 kd an ai mB kd'' an'' ai'' mB'' := fun r hr => by
  have a := H r hr
  have b := J r (by rw [a.1]; exact hr)
  exact ⟨b.1.trans a.1, b.2.1.trans a.2.1, b.2.2.1.trans a.2.2.1, b.2.2.2.trans a.2.2.2⟩
section
variable {kd : Nat → Nat} {an : Nat → Nat} {ai : Nat → Int → Int} {al : Nat → Int → Int} {ar : Nat → Int → Option Nat} {mX42_disk : Nat → Option Nat} {mX42_count : Nat → Int} {mX42_runs : Nat → Int} {mX42_isFull : Nat → Int} {mX42_places : Nat → Option Nat} {mX42_laid : Nat → Option Nat} {mX42_changed : Nat → Int} {mX42_waiting : Nat → Option Nat} {mX42_states : Nat → Option Nat} {mX42_kept : Nat → Option Nat} {mX43_number : Nat → Int} {mX43_sectors : Nat → Int} {mX63_bytes : Nat → Option Nat} {mX64_to : Nat → Int} {mX64_sector : Nat → Option Nat} {mJ1_modCount : Nat → Int} {mJ2_elementData : Nat → Option Nat} {mJ2_size : Nat → Int} {mJ5_elements : Nat → Option Nat} {mJ5_head : Nat → Int} {mJ5_tail : Nat → Int} {mJ22_cursor : Nat → Int} {mJ22_remaining : Nat → Int} {mJ22_lastRet : Nat → Int} {mJ22_this_0 : Nat → Option Nat} {mJ23_cursor : Nat → Int} {mJ23_lastRet : Nat → Int} {mJ23_expectedModCount : Nat → Int} {mJ23_this_0 : Nat → Option Nat} {sa : Nat → Nat} {d e q x l dq pq lq d1 e1 d2 e2 e3 s b : Nat} {cap hd n i c1 h1 c2 h2 : Int} {el f ls lb ws wb w1 w2 w3 w : Int → Nat} {MC MS kc ks' : Nat} {A B : Prop} {dk op lt ld pl tg by' nu se ku ks : Int → Int} {fi be ol nw kn k p v ru fu ch lo : Int} {kd' an' : Nat → Nat} {ai' : Nat → Int → Int} {mB' : Nat → Option Nat} {fn : Int → Int}
theorem kdSe.kp (S : kdSe kd an ai mX63_bytes lo s b fn) (K : kdK4 kd an ai mX63_bytes kd' an' ai' mB') : kdSe kd' an' ai' mB' lo s b fn := by
  obtain ⟨a1, a2, a3, a4, a5⟩ := S
  obtain ⟨x1, _, _, x4⟩ := K s (by omega)
  obtain ⟨y1, y2, y3, _⟩ := K b (by omega)
  exact ⟨x1.trans a1, x4.trans a2, y1.trans a3, y2.trans a4, fun i i0 i1 => by rw [y3]; exact a5 i i0 i1⟩
theorem kdC1.kp (C : kdC1 kd an ai mX42_disk mX42_count mX42_runs mX42_isFull mX42_changed x dq dk ru fu ch) (K : kdK4 kd an ai mX63_bytes kd' an' ai' mB') : kdC1 kd' an' ai' mX42_disk mX42_count mX42_runs mX42_isFull mX42_changed x dq dk ru fu ch := by
  obtain ⟨⟨a1, a2, a3, a4⟩, B, c⟩ := C
  obtain ⟨x1, _⟩ := K x (by omega)
  obtain ⟨y1, y2, y3, _⟩ := K dq (by omega)
  exact ⟨⟨x1.trans a1, a2, y1.trans a3, y2.trans a4⟩, B, fun i i0 i1 => by rw [y3]; exact c i i0 i1⟩
theorem kdC2.kp (C : kdC2 kd an ai mX42_places x pq pl) (K : kdK4 kd an ai mX63_bytes kd' an' ai' mB') : kdC2 kd' an' ai' mX42_places x pq pl := by
  obtain ⟨⟨a1, a2, a3⟩, c⟩ := C
  obtain ⟨y1, y2, y3, _⟩ := K pq (by omega)
  exact ⟨⟨a1, y1.trans a2, y2.trans a3⟩, fun i i0 i1 => by rw [y3]; exact c i i0 i1⟩
theorem kdC3.kp (C : kdC3 kd an ai ar mX42_laid mX63_bytes x lq ls lb ld op) (K : kdK4 kd an ai mX63_bytes kd' an' ai' mB') : kdC3 kd' an' ai' ar mX42_laid mB' x lq ls lb ld op := by
  obtain ⟨⟨a1, a2, a3⟩, b, c⟩ := C
  obtain ⟨y1, y2, _, _⟩ := K lq (by omega)
  exact ⟨⟨a1, y1.trans a2, y2.trans a3⟩, b, fun k k0 k1 kl => (c k k0 k1 kl).kp K⟩
theorem dqD.kp (D : dqD kd an ar mJ5_elements mJ5_head mJ5_tail d e cap hd n el) (K : kdK4 kd an ai mX63_bytes kd' an' ai' mB') : dqD kd' an' ar mJ5_elements mJ5_head mJ5_tail d e cap hd n el := by
  obtain ⟨⟨a1, a2, a3, a4, a5⟩, B, C, E⟩ := D
  obtain ⟨x1, _⟩ := K d (by omega)
  obtain ⟨y1, y2, _, _⟩ := K e (by omega)
  exact ⟨⟨x1.trans a1, a2, y1.trans a3, by rw [y2]; exact a4, a5⟩, B, C, E⟩
theorem kdC4.kp (C : kdC4 kd an ai ar mX42_waiting mX64_to mX64_sector mX63_bytes mJ5_elements mJ5_head mJ5_tail x d1 e1 c1 h1 w1 ws wb fi be tg by') (K : kdK4 kd an ai mX63_bytes kd' an' ai' mB') : kdC4 kd' an' ai' ar mX42_waiting mX64_to mX64_sector mB' mJ5_elements mJ5_head mJ5_tail x d1 e1 c1 h1 w1 ws wb fi be tg by' := by
  obtain ⟨a, D, c⟩ := C
  refine ⟨a, D.kp K, fun i i0 i1 => ?_⟩
  obtain ⟨⟨u1, u2, u3⟩, u4⟩ := c i i0 i1
  obtain ⟨y1, _⟩ := K (w1 i) (by omega)
  exact ⟨⟨y1.trans u1, u2, u3⟩, u4.kp K⟩
theorem kdC5.kp (C : kdC5 kd an ar mX42_states mX43_number mX43_sectors mJ5_elements mJ5_head mJ5_tail x d2 e2 c2 h2 w2 ol nw nu se) (K : kdK4 kd an ai mX63_bytes kd' an' ai' mB') : kdC5 kd' an' ar mX42_states mX43_number mX43_sectors mJ5_elements mJ5_head mJ5_tail x d2 e2 c2 h2 w2 ol nw nu se := by
  obtain ⟨a, D, c⟩ := C
  refine ⟨a, D.kp K, fun i i0 i1 => ?_⟩
  obtain ⟨u1, u2⟩ := c i i0 i1
  obtain ⟨y1, _⟩ := K (w2 i) (by omega)
  exact ⟨y1.trans u1, u2⟩
theorem kdC6.kp (C : kdC6 kd an ar sa mX42_kept mX43_number mX43_sectors mJ2_elementData mJ2_size mJ1_modCount x l e3 w3 kn ku ks) (K : kdK4 kd an ai mX63_bytes kd' an' ai' mB') : kdC6 kd' an' ar sa mX42_kept mX43_number mX43_sectors mJ2_elementData mJ2_size mJ1_modCount x l e3 w3 kn ku ks := by
  obtain ⟨⟨a1, a2⟩, L, M, c⟩ := C
  obtain ⟨x1, _⟩ := K l (by omega)
  refine ⟨⟨a1, x1.trans a2⟩, L.mono (by decide) (fun a ha => ⟨(K a ha).1, (K a ha).2.1⟩), M, fun i i0 i1 => ?_⟩
  obtain ⟨u1, u2⟩ := c i i0 i1
  obtain ⟨y1, _⟩ := K (w3 i) (by omega)
  exact ⟨y1.trans u1, u2⟩
theorem CKD_isPageB (C1 : kdC1 kd an ai mX42_disk mX42_count mX42_runs mX42_isFull mX42_changed x dq dk ru fu ch) (C : kdC2 kd an ai mX42_places x pq pl) (h1 : kdIp pl p → B) (h0 : ¬ kdIp pl p → A) : wpKD_X42_isPage (fun r => (r = 0 → A) ∧ (¬ r = 0 → B)) kd an ai mX42_places x p := by
  unfold wpKD_X42_isPage
  refine ⟨fun w => ⟨fun _ => h0 (fun z => by have := z.1; omega), fun z => absurd rfl z⟩, fun w => ⟨fun w2 => ⟨fun _ => h0 (fun z => by have := z.1; omega), fun z => absurd rfl z⟩, fun w2 => kOn_of C.1.1 ⟨C.1.2.1, by rw [C.1.2.2]; omega, ?_⟩⟩⟩
  rw [C.2 p (by omega) (by omega)]
  exact ⟨fun e => ⟨fun _ => h0 (fun z => z.2 e), fun z => absurd rfl z⟩, fun e => ⟨fun z => absurd z (by decide), fun _ => h1 ⟨by omega, e⟩⟩⟩
theorem CKD_freePage {post : Int → Prop} (C : kdC2 kd an ai mX42_places x pq pl) (hp : post (kdFp pl)) : wpKD_X42_freePage post kd an ai mX42_places x := by
  obtain ⟨hb, h1, h2⟩ := fstI_s (fun p => pl p = -1) 30
  unfold kdFp at hp
  unfold wpKD_X42_freePage
  refine wloop (fun f y => wKD_X42_freePage_2 _ x kd an ai mX42_places f y) (fun y => 0 ≤ y ∧ y ≤ fstI (fun p => pl p = -1) 30) (fun y => (30 - y).toNat) ?_ 0 ⟨by decide, hb.1⟩
  rintro y ⟨y0, y1⟩ f ih
  rw [wKD_X42_freePage_2]
  have hb2 : fstI (fun p => pl p = -1) 30 ≤ 30 := hb.2
  refine ⟨fun w => ?_, fun w => kOn_of C.1.1 ⟨C.1.2.1, by rw [C.1.2.2]; omega, fun e => ?_, fun e => ⟨by omega, fun y2 ey => ?_⟩⟩⟩
  · rw [if_neg (by omega)] at hp
    exact ⟨fun _ => hp, fun z => absurd w z⟩
  · rw [C.2 y (by omega) (by omega)] at e
    have ef : fstI (fun p => pl p = -1) 30 = y := by
      rcases Int.lt_or_eq_of_le y1 with q | q
      · exact absurd e (h2 y y0 q)
      · exact q.symm
    rw [ef, if_pos (by omega)] at hp
    exact ⟨fun z => absurd z w, fun _ => hp⟩
  · rw [C.2 y (by omega) (by omega)] at e
    have ne : ¬ fstI (fun p => pl p = -1) 30 = y := fun q => by
      have := h1 (by show fstI (fun p => pl p = -1) 30 < ((30 : Nat) : Int); omega)
      rw [q] at this
      exact e this
    subst ey
    exact ih _ ⟨by omega, by omega⟩ (by omega)
/-- a sector's parts -/
theorem CKD_byte (S : kdSe kd an ai mX63_bytes lo s b fn) (hi : 0 ≤ i ∧ i < 32) (hl : lo ≤ i) : (-128 ≤ ai b i ∧ ai b i < 128) ∧ ai b i % 256 = fn i := ⟨(S.2.2.2.2 i hi.1 hi.2).1, (S.2.2.2.2 i hi.1 hi.2).2 hl⟩
theorem CKD_kind {post : Int → Prop} (S : kdSe kd an ai mX63_bytes lo s b fn) (hl : lo ≤ 4) (hp : post (if fn 4 ≤ 127 then fn 4 else fn 4 - 256)) : wpKD_X63_kind post kd an ai mX63_bytes s := by
  have B := CKD_byte (i := 4) S (by decide) hl
  unfold wpKD_X63_kind
  refine kOn_of S.2.1 ⟨S.2.2.1, by rw [S.2.2.2.1]; decide, ?_⟩
  by_cases w : fn 4 ≤ 127
  · rw [if_pos w] at hp
    rw [show ai b 4 = fn 4 by omega]; exact hp
  · rw [if_neg w] at hp
    rw [show ai b 4 = fn 4 - 256 by omega]; exact hp
theorem CKD_page5 {post : Int → Prop} (S : kdSe kd an ai mX63_bytes lo s b fn) (hl : lo ≤ 5) (hp : post (fn 5)) : wpKD_X63_page post kd an ai mX63_bytes s := by
  have B := CKD_byte (i := 5) S (by decide) hl
  unfold wpKD_X63_page
  refine kOn_of S.2.1 ⟨S.2.2.1, by rw [S.2.2.2.1]; decide, ?_⟩
  rw [B.2]; exact hp
theorem CKD_source {post : Int → Prop} (S : kdSe kd an ai mX63_bytes lo s b fn) (hl : lo ≤ 6) (hp : post (fn 6)) : wpKD_X63_source post kd an ai mX63_bytes s := by
  have B := CKD_byte (i := 6) S (by decide) hl
  unfold wpKD_X63_source
  refine kOn_of S.2.1 ⟨S.2.2.1, by rw [S.2.2.2.1]; decide, ?_⟩
  rw [B.2]; exact hp
theorem CKD_number {post : Int → Prop} {a : Int} (S : kdSe kd an ai mX63_bytes lo s b fn) (ha : 0 ≤ a ∧ a + 4 ≤ 32) (hl : lo ≤ a) (hp : post (kdNo fn a)) : wpKD_X63_number post kd an ai mX63_bytes s a := by
  unfold kdNo at hp
  unfold wpKD_X63_number
  rw [← (CKD_byte (i := a) S (by omega) (by omega)).2, ← (CKD_byte (i := a + 1) S (by omega) (by omega)).2, ← (CKD_byte (i := a + 2) S (by omega) (by omega)).2, ← (CKD_byte (i := a + 3) S (by omega) (by omega)).2] at hp
  exact kOn_of S.2.1 ⟨S.2.2.1, by rw [S.2.2.2.1]; omega, by rw [S.2.2.2.1]; omega, by omega, by rw [S.2.2.2.1]; omega, by omega, by rw [S.2.2.2.1]; omega, by omega, hp⟩
theorem CKD_wide {post : Int → Prop} {a : Int} (S : kdSe kd an ai mX63_bytes lo s b fn) (ha : 0 ≤ a ∧ a + 8 ≤ 32) (hl : lo ≤ a) (hp : post (kdWi fn a)) : wpKD_X63_wide post kd an ai mX63_bytes s a := by
  unfold wpKD_X63_wide
  exact CKD_number S (by omega) hl ⟨by omega, CKD_number S (by omega) (by omega) hp⟩
theorem CKD_value {post : Int → Prop} (S : kdSe kd an ai mX63_bytes lo s b fn) (hl : lo ≤ 4) (hp : post (kdWi fn 8)) : wpKD_X63_value post kd an ai mX63_bytes s := by
  unfold wpKD_X63_value
  exact CKD_wide S (by decide) (by omega) hp
/-- sums -/
theorem kd_rot {x : Int} (hx : zR x) : zor (zshl x 11) (zushr x (w32 (-11))) = zor (w32 (x * 2048)) ((x % 4294967296) / 2097152) := by
  have ea : (Int32.ofInt x).toInt = x := by rw [z_of, w32_id hx]
  have e1 : zshl x 11 = w32 (x * 2048) := z_shlw (a := Int32.ofInt x) (m := Int32.ofInt 11) (k := 11) ea ⟨by decide, by decide, by decide⟩
  have e2 : (Int32.ofInt (w32 (-11))).toUInt32 &&& Int32.toUInt32 31 = (Int32.ofInt 21).toUInt32 &&& Int32.toUInt32 31 := by decide
  have e3 : zushr x (w32 (-11)) = (x % 4294967296) / 2097152 := by
    unfold zushr
    rw [e2]
    exact z_ushr (a := Int32.ofInt x) (m := Int32.ofInt 21) (k := 21) ea ⟨by decide, by decide, by decide⟩ (by decide)
  rw [e1, e3]
theorem kd_rotL {x : Int} (hx : zL x) : zLor (zLshl x 9) (zLushr x (w32 (-9))) = zLor (x * 512) ((x % 18446744073709551616) / 36028797018963968) := by
  have ea : (Int64.ofInt x).toInt = x := by rw [zL_of, w64_id hx]
  have e1 : zLshl x 9 = w64 (x * 512) := zL_shlw (a := Int64.ofInt x) (m := Int32.ofInt 9) (k := 9) ea ⟨by decide, by decide, by decide⟩
  have e2 : (Int32.ofInt (w32 (-9))).toInt64.toUInt64 &&& Int64.toUInt64 63 = (Int32.ofInt 55).toInt64.toUInt64 &&& Int64.toUInt64 63 := by decide
  have e3 : zLushr x (w32 (-9)) = (x % 18446744073709551616) / 36028797018963968 := by
    unfold zLushr
    rw [e2]
    exact zL_ushr (a := Int64.ofInt x) (m := Int32.ofInt 55) (k := 55) ea ⟨by decide, by decide, by decide⟩ (by decide)
  rw [e1, e3]
  unfold zLor
  have e4 : Int64.ofInt (w64 (x * 512)) = Int64.ofInt (x * 512) := by rw [← zL_of, Int64.ofInt_toInt]
  rw [e4]
theorem CKD_sum {post : Int → Prop} (S : kdSe kd an ai mX63_bytes lo s b fn) (hl : lo ≤ 4) (hp : post (kdSm fn 28)) : wpKD_X63_sum post kd an ai mX63_bytes s := by
  have go : ∀ (j m : Nat), m + j = 28 → wKD_X63_sum_4 (fun (x1_16 : Int) => (post x1_16)) s kd an ai mX63_bytes (j + 1) (kdSm fn m) (4 + (m : Int)) := fun j => by
    induction j with
    | zero =>
      intro m hm
      rw [wKD_X63_sum_4]
      have e : m = 28 := by omega
      subst e
      exact ⟨fun _ => hp, fun w => absurd (by decide) w⟩
    | succ j ih =>
      intro m hm
      rw [wKD_X63_sum_4]
      refine ⟨fun w => by omega, fun _ => kOn_of S.2.1 ⟨S.2.2.1, by rw [S.2.2.2.1]; omega, ?_⟩⟩
      unfold wpKD_J3_rotateLeft
      intro s' es i ei
      rw [w32_id (show zR (4 + (m : Int) + 1) by omega)] at ei
      have I := ih (m + 1) (by omega)
      rw [show (4 : Int) + ((m + 1 : Nat) : Int) = 4 + (m : Int) + 1 by omega] at I
      rw [kd_rot (zr_xor32 _ _), (CKD_byte (i := 4 + (m : Int)) S (by omega) (by omega)).2] at es
      rw [ei, es]
      exact I
  unfold wpKD_X63_sum
  exact ⟨29, go 28 0 rfl⟩
theorem CKD_derivedFrom {post : Int → Prop} (hv : zL v) (hp : post (kdTu v)) : wpKD_X42_derivedFrom post v := by
  unfold wpKD_X42_derivedFrom wpKD_J21_rotateLeft
  rw [kd_rotL hv]; exact hp
theorem CKD_isRightB (S : kdSe kd an ai mX63_bytes 0 s b fn) (h1 : kdNo fn 0 = kdSm fn 28 → B) (h0 : ¬ kdNo fn 0 = kdSm fn 28 → A) : wpKD_X63_isRight (fun r => (r = 0 → A) ∧ (¬ r = 0 → B)) kd an ai mX63_bytes s := by
  unfold wpKD_X63_isRight
  exact CKD_number S (by decide) (by decide) (CKD_sum S (by decide) ⟨fun e => ⟨fun z => absurd z (by decide), fun _ => h1 e⟩, fun e => ⟨fun _ => h0 e, fun z => absurd rfl z⟩⟩)
/-- a fresh sector, off the disk -/
theorem CKD_read {post : Option Nat → (Nat → Nat) → (Nat → Nat) → (Nat → Int → Int) → (Nat → Option Nat) → Prop} (hM : 2 ≤ MC ∧ 33 ≤ MS) (C : kdC1 kd an ai mX42_disk mX42_count mX42_runs mX42_isFull mX42_changed x dq dk ru fu ch) (hk : 0 ≤ k ∧ k < 48) (H : ∀ s b f, kd s = 0 → va_up kd s 3 b = 0 → kdK4 kd an ai mX63_bytes (va_up (va_up kd s 3) b 10) (va_up an b 32) (va_up ai b f) (va_up mX63_bytes s (some b)) → kdSe (va_up (va_up kd s 3) b 10) (va_up an b 32) (va_up ai b f) (va_up mX63_bytes s (some b)) 0 s b (fun i => dk (32 * k + i)) → post (some s) (va_up (va_up kd s 3) b 10) (va_up an b 32) (va_up ai b f) (va_up mX63_bytes s (some b))) : wpKD_X42_read MC MS post kd an ai mX42_disk mX63_bytes x k := by
  obtain ⟨⟨a1, a2, a3, a4⟩, _, c⟩ := C
  unfold wpKD_X42_read
  refine ⟨by omega, fun s hs m em => ⟨1, 32, by omega, ?_⟩⟩
  unfold wpKD_X63_init
  refine ⟨by omega, fun b hb a ea m2 em2 => ⟨by omega, by omega, fun _ => ⟨by omega, kOn_of (show m2 s = some b by rw [em2, va_up_self]) (kOn_of a2 ⟨va_up_self _ _ _, ?_⟩)⟩⟩⟩
  have nb : ¬ b = s := fun e => by rw [e, va_up_self] at hb; exact absurd hb (by decide)
  have hb0 : kd b = 0 := by rw [va_up_ne _ _ nb] at hb; exact hb
  have nd : ¬ dq = s := fun e => by rw [e, hs] at a3; exact absurd a3 (by decide)
  have nd2 : ¬ dq = b := fun e => by rw [e, hb0] at a3; exact absurd a3 (by decide)
  have rd : a dq = ai dq := by rw [ea]; exact va_up_ne _ _ nd2
  refine ⟨by rw [va_up_ne _ _ nd2, va_up_ne _ _ nd]; exact a3, by rw [va_up_ne _ _ nd2, a4, va_up_self]; omega, fun i i0 i1 => by rw [rd]; exact (c (32 * k + i) (by omega) (by omega)).1, fun a2' ea2 => ⟨by omega, by omega, ?_⟩⟩
  rw [ea, va_up_up] at ea2
  rw [em, va_up_up] at em2
  rw [ea2, em2]
  refine H s b _ hs hb (fun r hr => ?_) ⟨by rw [va_up_ne _ _ (fun e => nb e.symm), va_up_self], va_up_self _ _ _, va_up_self _ _ _, va_up_self _ _ _, fun i i0 i1 => ?_⟩
  · have n1 : ¬ r = s := fun e => hr (by rw [e]; exact hs)
    have n2 : ¬ r = b := fun e => hr (by rw [e]; exact hb0)
    exact ⟨by rw [va_up_ne _ _ n2, va_up_ne _ _ n1], va_up_ne _ _ n2, va_up_ne _ _ n2, va_up_ne _ _ n1⟩
  · rw [va_up_self]
    unfold zcpy
    rw [if_pos (by omega), show 32 * k + (i - 0) = 32 * k + i by omega, va_up_ne _ _ nd2]
    have := c (32 * k + i) (by omega) (by omega)
    exact ⟨this.1, fun _ => this.2⟩
end

/-! KnowDisk, the component: who holds a sector; a sector as it will be -/
/-- what lies later in a sector: the last write that waits for it, or the disk -/
def kdLt (lt dk tg by' : Int → Int) (fi be : Int) : Prop := (∀ w, fi ≤ w → w < be → (∀ w', w < w' → w' < be → ¬ tg w' = tg w) → ∀ j, 0 ≤ j → j < 32 → lt (32 * tg w + j) = by' (32 * w + j)) ∧ ∀ k, 0 ≤ k → k < 48 → ¬ kdWt tg fi be k → ∀ j, 0 ≤ j → j < 32 → lt (32 * k + j) = dk (32 * k + j)
theorem kdBt_n {s : Int} {k : Nat} : kdBt s (k : Int) ↔ zb s k = 1 := by unfold kdBt zb; rw [Int.toNat_natCast]
theorem zL_sh1 {y : Int} (h : 0 ≤ y ∧ y < 63) : zLshl 1 y = 2 ^ y.toNat := by
  have e : (Int32.ofInt y).toInt = y := by rw [z_of, w32_id (by omega)]
  exact zL_one (m := Int32.ofInt y) e h
theorem kd2_L : ∀ n : Nat, n < 63 → -9223372036854775808 ≤ (2 : Int) ^ n ∧ (2 : Int) ^ n < 9223372036854775808 := by decide
theorem kd_or1 {x y : Int} {k : Nat} (hx : zL x) (hy : 0 ≤ y ∧ y < 63) (hk : k < 64) : zb (zLor x (zLshl 1 y)) k = 1 ↔ zb x k = 1 ∨ (k : Int) = y := by
  rw [zL_sh1 hy, zb_or64 hx (kd2_L _ (by omega)) hk, zb_pow]
  have : k = y.toNat ↔ (k : Int) = y := by omega
  rw [this]
section
variable {kd : Nat → Nat} {an : Nat → Nat} {ai : Nat → Int → Int} {al : Nat → Int → Int} {ar : Nat → Int → Option Nat} {mX42_disk : Nat → Option Nat} {mX42_count : Nat → Int} {mX42_runs : Nat → Int} {mX42_isFull : Nat → Int} {mX42_places : Nat → Option Nat} {mX42_laid : Nat → Option Nat} {mX42_changed : Nat → Int} {mX42_waiting : Nat → Option Nat} {mX42_states : Nat → Option Nat} {mX42_kept : Nat → Option Nat} {mX43_number : Nat → Int} {mX43_sectors : Nat → Int} {mX63_bytes : Nat → Option Nat} {mX64_to : Nat → Int} {mX64_sector : Nat → Option Nat} {mJ1_modCount : Nat → Int} {mJ2_elementData : Nat → Option Nat} {mJ2_size : Nat → Int} {mJ5_elements : Nat → Option Nat} {mJ5_head : Nat → Int} {mJ5_tail : Nat → Int} {mJ22_cursor : Nat → Int} {mJ22_remaining : Nat → Int} {mJ22_lastRet : Nat → Int} {mJ22_this_0 : Nat → Option Nat} {mJ23_cursor : Nat → Int} {mJ23_lastRet : Nat → Int} {mJ23_expectedModCount : Nat → Int} {mJ23_this_0 : Nat → Option Nat} {sa : Nat → Nat} {d e q x l dq pq lq d1 e1 d2 e2 e3 s b : Nat} {cap hd n i c1 h1 c2 h2 : Int} {el f ls lb ws wb w1 w2 w3 w : Int → Nat} {MC MS kc ks' : Nat} {A B : Prop} {dk op lt ld pl tg by' nu se ku ks : Int → Int} {fi be ol nw kn k p v ru fu ch lo : Int} {fn : Int → Int} {P : Nat → Prop}
theorem CKD_open {post : Int → Prop} (C : kdC2 kd an ai mX42_places x pq pl) (hP : ∀ p, 0 ≤ p → p < 30 → pl p = -1 ∨ (2 ≤ pl p ∧ pl p < 48)) (H : ∀ r, zL r → (∀ k : Nat, k < 64 → (zb r k = 1 ↔ kdOp pl k)) → post r) : wpKD_X42_open post kd an ai mX42_places x := by
  unfold wpKD_X42_open
  intro y ey
  rw [ey, C.1.1]
  refine kOn_some ⟨C.1.2.1, by rw [C.1.2.2]; decide, fun z ez => ?_⟩
  rw [ez, C.1.2.2]
  refine wl2 (fun f a j => wKD_X42_open_14 _ (some pq) ((30 : Nat) : Int) kd an ai f a j) (fun a j => (0 ≤ j ∧ j ≤ 30) ∧ (-9223372036854775808 ≤ a ∧ a < 9223372036854775808) ∧ ∀ k : Nat, k < 64 → (zb a k = 1 ↔ ∃ p, (0 ≤ p ∧ p < j) ∧ pl p = k)) (fun _ j => (30 - j).toNat) ?_ 0 0 ⟨by decide, by decide, fun k _ => ⟨fun w => by rw [zb_zero] at w; exact absurd w (by decide), fun ⟨p, hp, _⟩ => by omega⟩⟩
  rintro a j ⟨hj, ha, hb⟩ f ih
  rw [wKD_X42_open_14]
  refine ⟨fun w => ?_, fun w => kOn_some ⟨C.1.2.1, by rw [C.1.2.2]; omega, fun v ev => ?_⟩⟩
  · have e : j = 30 := by omega
    rw [e] at hb
    exact H a ha hb
  rw [C.2 j hj.1 (by omega)] at ev
  refine ⟨fun e => ⟨by omega, fun j2 ej => ?_⟩, fun e a2 ea => ⟨by omega, fun j2 ej => ?_⟩⟩
  · subst ej
    refine ih _ _ ⟨by omega, ha, fun k hk => ?_⟩ (by omega)
    rw [hb k hk]
    refine ⟨fun ⟨p, hp, r⟩ => ⟨p, by omega, r⟩, fun ⟨p, hp, r⟩ => ⟨p, ?_, r⟩⟩
    by_cases z : p = j
    · rw [z, ← ev, e] at r; omega
    · omega
  · subst ej
    have pb := hP j hj.1 (by omega)
    refine ih _ _ ⟨by omega, by rw [ea]; exact zr_or64 _ _, fun k hk => ?_⟩ (by omega)
    rw [ea, kd_or1 ha (by omega) hk, hb k hk]
    refine ⟨fun z => ?_, fun ⟨p, hp, r⟩ => ?_⟩
    · rcases z with ⟨p, hp, r⟩ | z
      · exact ⟨p, by omega, r⟩
      · exact ⟨j, by omega, by omega⟩
    · by_cases z : p = j
      · rw [z] at r; exact Or.inr (by omega)
      · exact Or.inl ⟨p, by omega, r⟩
theorem CKD_h13 {K : Int → (Nat → Int) → (Nat → Int) → (Nat → Int) → (Nat → Int) → (Nat → Int) → Prop} (hk : kc ≤ MC ∧ ks' ≤ MS) (kq : kd q = 7) (C5 : kdC5 kd an ar mX42_states mX43_number mX43_sectors mJ5_elements mJ5_head mJ5_tail x d2 e2 c2 h2 w2 ol nw nu se) (ht : mJ22_this_0 q = some d2) (hz : ∀ s, ol ≤ s → s ≤ nw → zL (se s)) (hK : ∀ y C R L, zL y → (∀ k : Nat, k < 64 → (zb y k = 1 ↔ P k ∨ kdSs se ol nw k)) → K y C R L mJ23_cursor mJ23_lastRet) : ∀ (j : Nat) (i y : Int) (C R L : Nat → Int), (j : Int) + i = nw - ol + 1 → 0 ≤ i → zL y → (∀ k : Nat, k < 64 → (zb y k = 1 ↔ P k ∨ ∃ s, (ol ≤ s ∧ s < ol + i) ∧ kdBt (se s) k)) → C q = dqI c2 h2 i → R q = nw - ol + 1 - i → wKD_X42_held_13 MC MS K (some q) kd an ar mX43_sectors mJ1_modCount mJ2_elementData mJ2_size mJ5_elements mJ22_this_0 mJ23_expectedModCount mJ23_this_0 kc ks' (j + 1) y C R L mJ23_cursor mJ23_lastRet := fun j => by
  induction j with
  | zero =>
    intro i y C R L hi i0 hy hb hC hR
    rw [wKD_X42_held_13]
    refine kOn_some ⟨Or.inl kq, hk, CKD_hasB kq (fun w => by omega) (fun _ => hK y C R L hy (fun k hk => ?_))⟩
    rw [hb k hk]
    refine or_congr Iff.rfl ⟨fun ⟨s, hs, r⟩ => ⟨s, by omega, r⟩, fun ⟨s, hs, r⟩ => ⟨s, by omega, r⟩⟩
  | succ j ih =>
    intro i y C R L hi i0 hy hb hC hR
    rw [wKD_X42_held_13]
    refine kOn_some ⟨Or.inl kq, hk, CKD_hasB kq (fun _ => ⟨hk, CKD_next kq C5.2.1 ht ⟨i0, by omega⟩ hC hR (fun C' R' L' hC' hR' => ?_)⟩) (fun w => by omega)⟩
    obtain ⟨k2, _, e2'⟩ := C5.2.2 i i0 (by omega)
    refine kOn_some ⟨k2, hk, ?_⟩
    unfold wpKD_X43_sectors
    intro y2 ey
    rw [e2'] at ey
    have z2 := hz (ol + i) (by omega) (by omega)
    refine ih (i + 1) y2 C' R' L' (by omega) (by omega) (by rw [ey]; exact zr_or64 _ _) (fun k hk => ?_) hC' hR'
    rw [ey, zb_or64 hy z2 hk, hb k hk, ← kdBt_n]
    refine ⟨fun z => ?_, fun z => ?_⟩
    · rcases z with (z | ⟨s, hs, r⟩) | z
      · exact Or.inl z
      · exact Or.inr ⟨s, by omega, r⟩
      · exact Or.inr ⟨ol + i, by omega, z⟩
    · rcases z with z | ⟨s, hs, r⟩
      · exact Or.inl (Or.inl z)
      · by_cases e : s = ol + i
        · rw [e] at r; exact Or.inr r
        · exact Or.inl (Or.inr ⟨s, by omega, r⟩)
theorem CKD_h52 {K : Int → (Nat → Int) → (Nat → Int) → (Nat → Int) → (Nat → Int) → (Nat → Int) → Prop} (hk : kc ≤ MC ∧ ks' ≤ MS) (kq : kd q = 8) (C6 : kdC6 kd an ar sa mX42_kept mX43_number mX43_sectors mJ2_elementData mJ2_size mJ1_modCount x l e3 w3 kn ku ks) (hkn : kn ≤ 4) (ht : mJ23_this_0 q = some l) (hx : mJ23_expectedModCount q = mJ1_modCount l) (hz : ∀ s, 0 ≤ s → s < kn → zL (ks s)) (hK : ∀ y C R, zL y → (∀ k : Nat, k < 64 → (zb y k = 1 ↔ P k ∨ kdKs ks kn k)) → K y mJ22_cursor mJ22_remaining mJ22_lastRet C R) : ∀ (j : Nat) (i y : Int) (C R : Nat → Int), (j : Int) + i = kn → 0 ≤ i → zL y → (∀ k : Nat, k < 64 → (zb y k = 1 ↔ P k ∨ ∃ s, (0 ≤ s ∧ s < i) ∧ kdBt (ks s) k)) → C q = i → wKD_X42_held_52 MC MS K (some q) kd an ar mX43_sectors mJ1_modCount mJ2_elementData mJ2_size mJ5_elements mJ22_this_0 mJ23_expectedModCount mJ23_this_0 kc ks' (j + 1) y mJ22_cursor mJ22_remaining mJ22_lastRet C R := fun j => by
  have hs := C6.2.1.2.1
  induction j with
  | zero =>
    intro i y C R hi i0 hy hb hC
    rw [wKD_X42_held_52]
    refine kOn_some ⟨Or.inr kq, hk, CKD_lhasB kq C6.1.2 ht (fun w => absurd (by omega) w) (fun _ => hK y C R hy (fun k hk => ?_))⟩
    rw [hb k hk]
    refine or_congr Iff.rfl ⟨fun ⟨s, hs, r⟩ => ⟨s, by omega, r⟩, fun ⟨s, hs, r⟩ => ⟨s, by omega, r⟩⟩
  | succ j ih =>
    intro i y C R hi i0 hy hb hC
    rw [wKD_X42_held_52]
    refine kOn_some ⟨Or.inr kq, hk, CKD_lhasB kq C6.1.2 ht (fun _ => ⟨hk, CKD_lnext kq C6.1.2 C6.2.1 (by omega) ht hx ⟨i0, by omega⟩ hC (fun C' R' hC' => ?_)⟩) (fun w => by omega)⟩
    obtain ⟨k2, _, e2'⟩ := C6.2.2.2 i i0 (by omega)
    refine kOn_some ⟨k2, hk, ?_⟩
    unfold wpKD_X43_sectors
    intro y2 ey
    rw [e2'] at ey
    have z2 := hz i (by omega) (by omega)
    refine ih (i + 1) y2 C' R' (by omega) (by omega) (by rw [ey]; exact zr_or64 _ _) (fun k hk => ?_) hC'
    rw [ey, zb_or64 hy z2 hk, hb k hk, ← kdBt_n]
    refine ⟨fun z => ?_, fun z => ?_⟩
    · rcases z with (z | ⟨s, hs, r⟩) | z
      · exact Or.inl z
      · exact Or.inr ⟨s, by omega, r⟩
      · exact Or.inr ⟨i, by omega, z⟩
    · rcases z with z | ⟨s, hs, r⟩
      · exact Or.inl (Or.inl z)
      · by_cases e : s = i
        · rw [e] at r; exact Or.inr r
        · exact Or.inl (Or.inr ⟨s, by omega, r⟩)
theorem CKD_h91 {K : Int → (Nat → Int) → (Nat → Int) → (Nat → Int) → (Nat → Int) → (Nat → Int) → Prop} (hk : kc ≤ MC ∧ ks' ≤ MS) (kq : kd q = 7) (C4 : kdC4 kd an ai ar mX42_waiting mX64_to mX64_sector mX63_bytes mJ5_elements mJ5_head mJ5_tail x d1 e1 c1 h1 w1 ws wb fi be tg by') (ht : mJ22_this_0 q = some d1) (hz : ∀ s, fi ≤ s → s < be → 0 ≤ tg s ∧ tg s < 48) (hK : ∀ y C R L, zL y → (∀ k : Nat, k < 64 → (zb y k = 1 ↔ P k ∨ kdWt tg fi be k)) → K y C R L mJ23_cursor mJ23_lastRet) : ∀ (j : Nat) (i y : Int) (C R L : Nat → Int), (j : Int) + i = be - fi → 0 ≤ i → zL y → (∀ k : Nat, k < 64 → (zb y k = 1 ↔ P k ∨ ∃ s, (fi ≤ s ∧ s < fi + i) ∧ tg s = k)) → C q = dqI c1 h1 i → R q = be - fi - i → wKD_X42_held_91 MC MS K (some q) kd an ar mX64_to mJ1_modCount mJ2_elementData mJ2_size mJ5_elements mJ22_this_0 mJ23_expectedModCount mJ23_this_0 kc ks' (j + 1) y C R L mJ23_cursor mJ23_lastRet := fun j => by
  induction j with
  | zero =>
    intro i y C R L hi i0 hy hb hC hR
    rw [wKD_X42_held_91]
    refine kOn_some ⟨Or.inl kq, hk, CKD_hasB kq (fun w => by omega) (fun _ => hK y C R L hy (fun k hk => ?_))⟩
    rw [hb k hk]
    refine or_congr Iff.rfl ⟨fun ⟨s, hs, r⟩ => ⟨s, by omega, r⟩, fun ⟨s, hs, r⟩ => ⟨s, by omega, r⟩⟩
  | succ j ih =>
    intro i y C R L hi i0 hy hb hC hR
    rw [wKD_X42_held_91]
    refine kOn_some ⟨Or.inl kq, hk, CKD_hasB kq (fun _ => ⟨hk, CKD_next kq C4.2.1 ht ⟨i0, by omega⟩ hC hR (fun C' R' L' hC' hR' => ?_)⟩) (fun w => by omega)⟩
    obtain ⟨⟨k2, e2', _⟩, _⟩ := C4.2.2 i i0 (by omega)
    refine kOn_some ⟨k2, hk, ?_⟩
    unfold wpKD_X64_to
    intro y2 ey
    rw [e2'] at ey
    have z2 := hz (fi + i) (by omega) (by omega)
    refine ih (i + 1) y2 C' R' L' (by omega) (by omega) (by rw [ey]; exact zr_or64 _ _) (fun k hk => ?_) hC' hR'
    rw [ey, kd_or1 hy (by omega) hk, hb k hk]
    refine ⟨fun z => ?_, fun z => ?_⟩
    · rcases z with (z | ⟨s, hs, r⟩) | z
      · exact Or.inl z
      · exact Or.inr ⟨s, by omega, r⟩
      · exact Or.inr ⟨fi + i, by omega, z.symm⟩
    · rcases z with z | ⟨s, hs, r⟩
      · exact Or.inl (Or.inl z)
      · by_cases e : s = fi + i
        · rw [e] at r; exact Or.inr r.symm
        · exact Or.inl (Or.inr ⟨s, by omega, r⟩)
theorem kdK4.it {K : Nat} (hq : kd q = 0) : kdK4 kd an ai mX63_bytes (va_up kd q K) an ai mX63_bytes := fun r hr => ⟨va_up_ne _ _ (fun e => hr (by rw [e]; exact hq)), _root_.rfl, _root_.rfl, _root_.rfl⟩
/-- ranges of what is gone over -/
def kdRg (pl tg : Int → Int) (fi be : Int) (se : Int → Int) (ol nw : Int) (ks : Int → Int) (kn : Int) : Prop := (∀ p, 0 ≤ p → p < 30 → pl p = -1 ∨ (2 ≤ pl p ∧ pl p < 48)) ∧ (∀ s, fi ≤ s → s < be → 0 ≤ tg s ∧ tg s < 48) ∧ (∀ s, ol ≤ s → s ≤ nw → zL (se s)) ∧ (∀ s, 0 ≤ s → s < kn → zL (ks s)) ∧ (0 ≤ fi ∧ fi ≤ be ∧ be ≤ 1200) ∧ (0 ≤ ol ∧ ol ≤ nw ∧ nw < 1200) ∧ 0 ≤ kn ∧ kn ≤ 4
theorem CKD_held {post : Int → (Nat → Nat) → (Nat → Int) → (Nat → Int) → (Nat → Int) → (Nat → Option Nat) → (Nat → Int) → (Nat → Int) → (Nat → Int) → (Nat → Option Nat) → Prop} (hM : 3 ≤ MC ∧ 12 ≤ MS) (Rg : kdRg pl tg fi be se ol nw ks kn) (C2 : kdC2 kd an ai mX42_places x pq pl) (C4 : kdC4 kd an ai ar mX42_waiting mX64_to mX64_sector mX63_bytes mJ5_elements mJ5_head mJ5_tail x d1 e1 c1 h1 w1 ws wb fi be tg by') (C5 : kdC5 kd an ar mX42_states mX43_number mX43_sectors mJ5_elements mJ5_head mJ5_tail x d2 e2 c2 h2 w2 ol nw nu se) (C6 : kdC6 kd an ar sa mX42_kept mX43_number mX43_sectors mJ2_elementData mJ2_size mJ1_modCount x l e3 w3 kn ku ks)
    (H : ∀ r kd' J1 J2 J3 J4 J5 J6 J7 J8, zL r → (∀ k : Nat, k < 64 → (zb r k = 1 ↔ kdHd pl tg fi be se ol nw ks kn k)) → kdK4 kd an ai mX63_bytes kd' an ai mX63_bytes → post r kd' J1 J2 J3 J4 J5 J6 J7 J8) : wpKD_X42_held MC MS post kd an ai ar mX42_places mX42_waiting mX42_states mX42_kept mX43_sectors mX64_to mJ1_modCount mJ2_elementData mJ2_size mJ5_elements mJ5_head mJ5_tail mJ22_cursor mJ22_remaining mJ22_lastRet mJ22_this_0 mJ23_cursor mJ23_lastRet mJ23_expectedModCount mJ23_this_0 x := by
  have nl := Nat.zero_le
  obtain ⟨r1, r2, r3, r4, r5, r6, r7⟩ := Rg
  unfold wpKD_X42_held
  refine ⟨⟨nl _, nl _⟩, CKD_open C2 r1 (fun r hr hb => kOn_of C5.1 ⟨C5.2.1.1.1, 1, 4, by omega, CKD_diter (by decide) C5.2.1 (fun q hq _ => ?_)⟩)⟩
  have K1 : kdK4 kd an ai mX63_bytes (va_up kd q 7) an ai mX63_bytes := kdK4.it hq
  refine ⟨(nw - ol + 1).toNat + 1, CKD_h13 (by omega) (va_up_self _ _ _) (C5.kp K1) (va_up_self _ _ _) r3 (P := fun k => kdOp pl k) (fun y C R L hy hyb => kOn_of C6.1.1 ⟨(C6.kp K1).1.2, 1, 4, by omega, CKD_liter (by decide) (C6.kp K1).1.2 (fun q2 hq2 _ => ?_)⟩) _ 0 r _ _ _ (by omega) (Int.le_refl 0) hr (fun k hk => ?_) ?_ ?_⟩
  · rw [hb k hk]
    exact ⟨Or.inl, fun z => z.elim id (fun ⟨s, hs, _⟩ => by omega)⟩
  · rw [va_up_self, dqI_0 C5.2.1.2.1.2]
  · rw [va_up_self]; omega
  have K2 : kdK4 kd an ai mX63_bytes (va_up (va_up kd q 7) q2 8) an ai mX63_bytes := K1.trans (kdK4.it hq2)
  refine ⟨kn.toNat + 1, CKD_h52 (by omega) (va_up_self _ _ _) (C6.kp K2) r7.2 (va_up_self _ _ _) (va_up_self _ _ _) r4 (P := fun k => kdOp pl k ∨ kdSs se ol nw k) (fun y2 C2' R2 hy2 hyb2 => kOn_of C4.1 ⟨(C4.kp K2).2.1.1.1, 1, 4, by omega, CKD_diter (by decide) (C4.kp K2).2.1 (fun q3 hq3 _ => ?_)⟩) _ 0 y _ _ (by omega) (Int.le_refl 0) hy (fun k hk => ?_) (va_up_self _ _ _)⟩
  · rw [hyb k hk]
    exact ⟨Or.inl, fun z => z.elim id (fun ⟨s, hs, _⟩ => by omega)⟩
  have K3 : kdK4 kd an ai mX63_bytes (va_up (va_up (va_up kd q 7) q2 8) q3 7) an ai mX63_bytes := K2.trans (kdK4.it hq3)
  refine ⟨(be - fi).toNat + 1, CKD_h91 (by omega) (va_up_self _ _ _) (C4.kp K3) (va_up_self _ _ _) r2 (P := fun k => (kdOp pl k ∨ kdSs se ol nw k) ∨ kdKs ks kn k) (fun y3 C3 R3 L3 hy3 hyb3 => ⟨by omega, by omega, H y3 _ _ _ _ _ _ _ _ _ hy3 (fun k hk => ?_) K3⟩) _ 0 y2 _ _ _ (by omega) (Int.le_refl 0) hy2 (fun k hk => ?_) ?_ ?_⟩
  · rw [hyb2 k hk]
    exact ⟨Or.inl, fun z => z.elim id (fun ⟨s, hs, _⟩ => by omega)⟩
  · rw [va_up_self, dqI_0 C4.2.1.2.1.2]
  · rw [va_up_self]; omega
  · rw [hyb3 k hk]
    unfold kdHd
    refine ⟨fun z => ?_, fun z => ?_⟩
    · rcases z with ((z | z) | z) | z
      · exact Or.inl z
      · exact Or.inr (Or.inr (Or.inl z))
      · exact Or.inr (Or.inr (Or.inr z))
      · exact Or.inr (Or.inl z)
    · rcases z with z | z | z | z
      · exact Or.inl (Or.inl (Or.inl z))
      · exact Or.inr z
      · exact Or.inl (Or.inl (Or.inr z))
      · exact Or.inl (Or.inr z)
theorem CKD_free {post : Int → (Nat → Nat) → (Nat → Int) → (Nat → Int) → (Nat → Int) → (Nat → Option Nat) → (Nat → Int) → (Nat → Int) → (Nat → Int) → (Nat → Option Nat) → Prop} (hM : 3 ≤ MC ∧ 12 ≤ MS) (Rg : kdRg pl tg fi be se ol nw ks kn) (C1 : kdC1 kd an ai mX42_disk mX42_count mX42_runs mX42_isFull mX42_changed x dq dk ru fu ch) (C2 : kdC2 kd an ai mX42_places x pq pl) (C4 : kdC4 kd an ai ar mX42_waiting mX64_to mX64_sector mX63_bytes mJ5_elements mJ5_head mJ5_tail x d1 e1 c1 h1 w1 ws wb fi be tg by') (C5 : kdC5 kd an ar mX42_states mX43_number mX43_sectors mJ5_elements mJ5_head mJ5_tail x d2 e2 c2 h2 w2 ol nw nu se) (C6 : kdC6 kd an ar sa mX42_kept mX43_number mX43_sectors mJ2_elementData mJ2_size mJ1_modCount x l e3 w3 kn ku ks)
    (H : ∀ kd' J1 J2 J3 J4 J5 J6 J7 J8, kdK4 kd an ai mX63_bytes kd' an ai mX63_bytes → post (kdFs pl tg fi be se ol nw ks kn) kd' J1 J2 J3 J4 J5 J6 J7 J8) : wpKD_X42_free MC MS post kd an ai ar mX42_count mX42_places mX42_waiting mX42_states mX42_kept mX43_sectors mX64_to mJ1_modCount mJ2_elementData mJ2_size mJ5_elements mJ5_head mJ5_tail mJ22_cursor mJ22_remaining mJ22_lastRet mJ22_this_0 mJ23_cursor mJ23_lastRet mJ23_expectedModCount mJ23_this_0 x := by
  have ec := C1.2.1.1
  unfold wpKD_X42_free
  refine ⟨3, 12, by omega, CKD_held (by decide) Rg C2 C4 C5 C6 (fun r kd' J1 J2 J3 J4 J5 J6 J7 J8 hr hb K _ => ?_)⟩
  obtain ⟨fb, f1, f2⟩ := fstI_s (fun j => ¬ kdHd pl tg fi be se ol nw ks kn (2 + j)) 46
  unfold kdFs at H
  generalize eF : fstI (fun j => ¬ kdHd pl tg fi be se ol nw ks kn (2 + j)) 46 = F at fb f1 f2 H
  have hb2 : F ≤ 46 := fb.2
  rw [ec]
  have hH := H kd' J1 J2 J3 J4 J5 J6 J7 J8 K
  have bt : ∀ y : Int, 2 ≤ y → y < 48 → (r / 2 ^ y.toNat % 2 = 1 ↔ kdHd pl tg fi be se ol nw ks kn y) := fun y y0 y1 => by
    have := hb y.toNat (by omega)
    rw [show ((y.toNat : Nat) : Int) = y by omega] at this
    exact this
  refine wloop (fun f y => wKD_X42_free_7 MC MS _ x r mX42_count f y) (fun y => 2 ≤ y ∧ y ≤ 2 + F) (fun y => (48 - y).toNat) ?_ 2 ⟨by decide, by omega⟩
  rintro y ⟨y0, y1⟩ f ih
  rw [wKD_X42_free_7, ec]
  refine ⟨fun w => ?_, fun w => ⟨by omega, fun e => ⟨by omega, fun y2 ey => ?_⟩, fun e => ?_⟩⟩
  · rw [if_neg (by omega)] at hH
    exact ⟨fun _ => ⟨by omega, by omega, hH⟩, fun z => absurd w z⟩
  · rw [bt y y0 (by omega)] at e
    have ne : ¬ F = y - 2 := fun q => by
      have := f1 (by show F < ((46 : Nat) : Int); omega)
      rw [q, show 2 + (y - 2) = y by omega] at this
      exact this e
    subst ey
    exact ih _ ⟨by omega, by omega⟩ (by omega)
  · rw [bt y y0 (by omega)] at e
    have ef : F = y - 2 := by
      rcases Int.lt_or_eq_of_le y1 with q | q
      · have := f2 (y - 2) (by omega) (by omega)
        rw [show 2 + (y - 2) = y by omega] at this
        exact absurd e this
      · omega
    rw [ef, if_pos (by omega), show 2 + (y - 2) = y by omega] at hH
    exact ⟨fun z => absurd z w, fun _ => ⟨by omega, by omega, hH⟩⟩
end

/-! KnowDisk, the component: who waits, a sector as it will be, the latest state -/
theorem kdSe.fn {kd an : Nat → Nat} {ai : Nat → Int → Int} {mB : Nat → Option Nat} {lo : Int} {s b : Nat} {f g : Int → Int} (S : kdSe kd an ai mB lo s b f) (h : ∀ j, 0 ≤ j → j < 32 → lo ≤ j → f j = g j) : kdSe kd an ai mB lo s b g := by
  obtain ⟨a1, a2, a3, a4, a5⟩ := S
  exact ⟨a1, a2, a3, a4, fun i i0 i1 => ⟨(a5 i i0 i1).1, fun hl => ((a5 i i0 i1).2 hl).trans (h i i0 i1 hl)⟩⟩
/-- the latest of the first i that waits for k -/
def kdFd (tg : Int → Int) (fi : Int) (ws : Int → Nat) (k i : Int) (y : Option Nat) : Prop := (y = none ∧ ∀ s, fi ≤ s → s < fi + i → ¬ tg s = k) ∨ ∃ m, (0 ≤ m ∧ m < i) ∧ y = some (ws m) ∧ tg (fi + m) = k ∧ ∀ s, fi + m < s → s < fi + i → ¬ tg s = k
theorem kdFd.s {tg : Int → Int} {fi : Int} {ws : Int → Nat} {k i : Int} {y : Option Nat} (F : kdFd tg fi ws k i y) (h : ¬ tg (fi + i) = k) : kdFd tg fi ws k (i + 1) y := by
  rcases F with ⟨e, no⟩ | ⟨m, hm, e, e2, no⟩
  · refine Or.inl ⟨e, fun s s0 s1 => ?_⟩
    by_cases z : s = fi + i
    · rw [z]; exact h
    · exact no s s0 (by omega)
  · refine Or.inr ⟨m, by omega, e, e2, fun s s0 s1 => ?_⟩
    by_cases z : s = fi + i
    · rw [z]; exact h
    · exact no s s0 (by omega)
theorem kdNo_sh {f : Int → Int} {c a : Int} : kdNo (fun j => f (c + j)) a = kdNo f (c + a) := by
  unfold kdNo
  simp only [Int.add_assoc]
theorem kdWi_sh {f : Int → Int} {c a : Int} : kdWi (fun j => f (c + j)) a = kdWi f (c + a) := by
  unfold kdWi
  rw [kdNo_sh, kdNo_sh, Int.add_assoc]
section
variable {kd : Nat → Nat} {an : Nat → Nat} {ai : Nat → Int → Int} {al : Nat → Int → Int} {ar : Nat → Int → Option Nat} {mX42_disk : Nat → Option Nat} {mX42_count : Nat → Int} {mX42_runs : Nat → Int} {mX42_isFull : Nat → Int} {mX42_places : Nat → Option Nat} {mX42_laid : Nat → Option Nat} {mX42_changed : Nat → Int} {mX42_waiting : Nat → Option Nat} {mX42_states : Nat → Option Nat} {mX42_kept : Nat → Option Nat} {mX43_number : Nat → Int} {mX43_sectors : Nat → Int} {mX63_bytes : Nat → Option Nat} {mX64_to : Nat → Int} {mX64_sector : Nat → Option Nat} {mJ1_modCount : Nat → Int} {mJ2_elementData : Nat → Option Nat} {mJ2_size : Nat → Int} {mJ5_elements : Nat → Option Nat} {mJ5_head : Nat → Int} {mJ5_tail : Nat → Int} {mJ22_cursor : Nat → Int} {mJ22_remaining : Nat → Int} {mJ22_lastRet : Nat → Int} {mJ22_this_0 : Nat → Option Nat} {mJ23_cursor : Nat → Int} {mJ23_lastRet : Nat → Int} {mJ23_expectedModCount : Nat → Int} {mJ23_this_0 : Nat → Option Nat} {sa : Nat → Nat} {d e q x l dq pq lq d1 e1 d2 e2 e3 s b : Nat} {cap hd n i c1 h1 c2 h2 : Int} {el f ls lb ws wb w1 w2 w3 w : Int → Nat} {MC MS kc ks' : Nat} {A B : Prop} {dk op lt ld pl tg by' nu se ku ks : Int → Int} {fi be ol nw kn k p v ru fu ch lo : Int} {fn : Int → Int} {P : Nat → Prop}
theorem CKD_latest {post : Option Nat → Prop} (C : kdC5 kd an ar mX42_states mX43_number mX43_sectors mJ5_elements mJ5_head mJ5_tail x d2 e2 c2 h2 w2 ol nw nu se) (hn : ol ≤ nw) (hp : post (some (w2 (nw - ol)))) : wpKD_X42_latest post kd an ar mX42_states mJ5_elements mJ5_tail x := by
  unfold wpKD_X42_latest
  refine kOn_of C.1 ⟨C.2.1.1.1, CKD_dlast C.2.1 (by omega) ?_⟩
  rw [show nw - ol + 1 - 1 = nw - ol by omega]
  exact kOn_some ⟨(C.2.2 (nw - ol) (by omega) (by omega)).1, hp⟩
theorem CKD_w8 {K1 K0 : (Nat → Int) → (Nat → Int) → (Nat → Int) → (Nat → Int) → (Nat → Int) → Prop} (hk : kc ≤ MC ∧ ks' ≤ MS) (kq : kd q = 7) (C4 : kdC4 kd an ai ar mX42_waiting mX64_to mX64_sector mX63_bytes mJ5_elements mJ5_head mJ5_tail x d1 e1 c1 h1 w1 ws wb fi be tg by') (ht : mJ22_this_0 q = some d1) (hK1 : ∀ C R L, kdWt tg fi be k → K1 C R L mJ23_cursor mJ23_lastRet) (hK0 : ∀ C R L, ¬ kdWt tg fi be k → K0 C R L mJ23_cursor mJ23_lastRet) : ∀ (j : Nat) (i : Int) (C R L : Nat → Int), (j : Int) + i = be - fi → 0 ≤ i → (∀ s, fi ≤ s → s < fi + i → ¬ tg s = k) → C q = dqI c1 h1 i → R q = be - fi - i → wKD_X42_isWaiting_8 MC MS K1 K0 k (some q) kd an ar mX64_to mJ1_modCount mJ2_elementData mJ2_size mJ5_elements mJ22_this_0 mJ23_expectedModCount mJ23_this_0 kc ks' (j + 1) C R L mJ23_cursor mJ23_lastRet := fun j => by
  induction j with
  | zero =>
    intro i C R L hi i0 no hC hR
    rw [wKD_X42_isWaiting_8]
    exact kOn_some ⟨Or.inl kq, hk, CKD_hasB kq (fun w => by omega) (fun _ => hK0 C R L (fun ⟨s, hs, e⟩ => no s hs.1 (by omega) e))⟩
  | succ j ih =>
    intro i C R L hi i0 no hC hR
    rw [wKD_X42_isWaiting_8]
    refine kOn_some ⟨Or.inl kq, hk, CKD_hasB kq (fun _ => ⟨hk, CKD_next kq C4.2.1 ht ⟨i0, by omega⟩ hC hR (fun C' R' L' hC' hR' => ?_)⟩) (fun w => by omega)⟩
    obtain ⟨⟨k2, e2', _⟩, _⟩ := C4.2.2 i i0 (by omega)
    refine kOn_some ⟨k2, hk, ?_⟩
    unfold wpKD_X64_to
    rw [e2']
    refine ⟨fun e => hK1 C' R' L' ⟨fi + i, by omega, e⟩, fun e => ih (i + 1) C' R' L' (by omega) (by omega) (fun s s0 s1 => ?_) hC' hR'⟩
    by_cases z : s = fi + i
    · rw [z]; exact e
    · exact no s s0 (by omega)
theorem CKD_isWaitingB {A B : (Nat → Nat) → (Nat → Int) → (Nat → Int) → (Nat → Int) → (Nat → Option Nat) → (Nat → Int) → (Nat → Int) → Prop} (hM : 1 ≤ MC ∧ 4 ≤ MS) (C4 : kdC4 kd an ai ar mX42_waiting mX64_to mX64_sector mX63_bytes mJ5_elements mJ5_head mJ5_tail x d1 e1 c1 h1 w1 ws wb fi be tg by') (h1' : ∀ kd' J1 J2 J3 J4 J5 J6, kdK4 kd an ai mX63_bytes kd' an ai mX63_bytes → kdWt tg fi be k → B kd' J1 J2 J3 J4 J5 J6) (h0' : ∀ kd' J1 J2 J3 J4 J5 J6, kdK4 kd an ai mX63_bytes kd' an ai mX63_bytes → ¬ kdWt tg fi be k → A kd' J1 J2 J3 J4 J5 J6) : wpKD_X42_isWaiting MC MS (fun r kd' J1 J2 J3 J4 J5 J6 => (r = 0 → A kd' J1 J2 J3 J4 J5 J6) ∧ (¬ r = 0 → B kd' J1 J2 J3 J4 J5 J6)) kd an ar mX42_waiting mX64_to mJ1_modCount mJ2_elementData mJ2_size mJ5_elements mJ5_head mJ5_tail mJ22_cursor mJ22_remaining mJ22_lastRet mJ22_this_0 mJ23_cursor mJ23_lastRet mJ23_expectedModCount mJ23_this_0 x k := by
  unfold wpKD_X42_isWaiting
  have n0 := C4.2.1.2.2.1.2.1
  refine kOn_of C4.1 ⟨C4.2.1.1.1, 1, 4, by omega, CKD_diter (by decide) C4.2.1 (fun q hq _ => ?_)⟩
  have K1 : kdK4 kd an ai mX63_bytes (va_up kd q 7) an ai mX63_bytes := kdK4.it hq
  refine ⟨(be - fi).toNat + 1, CKD_w8 (by omega) (va_up_self _ _ _) (C4.kp K1) (va_up_self _ _ _) (fun C R L w => ⟨by omega, by omega, fun z => absurd z (by decide), fun _ => h1' _ _ _ _ _ _ _ K1 w⟩) (fun C R L w => ⟨by omega, by omega, fun _ => h0' _ _ _ _ _ _ _ K1 w, fun z => absurd rfl z⟩) _ 0 _ _ _ (by omega) (Int.le_refl 0) (fun s s0 s1 => by omega) ?_ ?_⟩
  · rw [va_up_self, dqI_0 C4.2.1.2.1.2]
  · rw [va_up_self]; omega
theorem CKD_s26 {K : Option Nat → (Nat → Int) → (Nat → Int) → (Nat → Int) → (Nat → Int) → (Nat → Int) → Prop} (hk : kc ≤ MC ∧ ks' ≤ MS) (kq : kd q = 7) (C4 : kdC4 kd an ai ar mX42_waiting mX64_to mX64_sector mX63_bytes mJ5_elements mJ5_head mJ5_tail x d1 e1 c1 h1 w1 ws wb fi be tg by') (ht : mJ22_this_0 q = some d1) (hK : ∀ y C R L, kdFd tg fi ws k (be - fi) y → K y C R L mJ23_cursor mJ23_lastRet) : ∀ (j : Nat) (i : Int) (y : Option Nat) (C R L : Nat → Int), (j : Int) + i = be - fi → 0 ≤ i → kdFd tg fi ws k i y → C q = dqI c1 h1 i → R q = be - fi - i → wKD_X42_sector_26 MC MS K k (some q) kd an ar mX64_to mX64_sector mJ1_modCount mJ2_elementData mJ2_size mJ5_elements mJ22_this_0 mJ23_expectedModCount mJ23_this_0 kc ks' (j + 1) y C R L mJ23_cursor mJ23_lastRet := fun j => by
  induction j with
  | zero =>
    intro i y C R L hi i0 F hC hR
    rw [wKD_X42_sector_26]
    refine kOn_some ⟨Or.inl kq, hk, CKD_hasB kq (fun w => by omega) (fun _ => hK y C R L ?_)⟩
    rw [show be - fi = i by omega]; exact F
  | succ j ih =>
    intro i y C R L hi i0 F hC hR
    rw [wKD_X42_sector_26]
    refine kOn_some ⟨Or.inl kq, hk, CKD_hasB kq (fun _ => ⟨hk, CKD_next kq C4.2.1 ht ⟨i0, by omega⟩ hC hR (fun C' R' L' hC' hR' => ?_)⟩) (fun w => by omega)⟩
    obtain ⟨⟨k2, e2', e3'⟩, _⟩ := C4.2.2 i i0 (by omega)
    refine kOn_some ⟨k2, hk, ?_⟩
    unfold wpKD_X64_to wpKD_X64_sector
    rw [e2', e3']
    refine ⟨fun e => ⟨hk, ih (i + 1) _ C' R' L' (by omega) (by omega) (Or.inr ⟨i, by omega, rfl, e, fun s s0 s1 => by omega⟩) hC' hR'⟩, fun e => ih (i + 1) y C' R' L' (by omega) (by omega) (F.s e) hC' hR'⟩
theorem CKD_sector {post : Option Nat → (Nat → Nat) → (Nat → Nat) → (Nat → Int → Int) → (Nat → Option Nat) → (Nat → Int) → (Nat → Int) → (Nat → Int) → (Nat → Option Nat) → (Nat → Int) → (Nat → Int) → Prop} (hM : 3 ≤ MC ∧ 37 ≤ MS) (hk : 0 ≤ k ∧ k < 48) (Lt : kdLt lt dk tg by' fi be) (C1 : kdC1 kd an ai mX42_disk mX42_count mX42_runs mX42_isFull mX42_changed x dq dk ru fu ch) (C3 : kdC3 kd an ai ar mX42_laid mX63_bytes x lq ls lb ld op) (C4 : kdC4 kd an ai ar mX42_waiting mX64_to mX64_sector mX63_bytes mJ5_elements mJ5_head mJ5_tail x d1 e1 c1 h1 w1 ws wb fi be tg by')
    (H : ∀ s b kd' an' ai' mB' J1 J2 J3 J4 J5 J6, kdK4 kd an ai mX63_bytes kd' an' ai' mB' → kdSe kd' an' ai' mB' (if ld k = 0 then 0 else 4) s b (fun j => kdBo lt op ld k j) → post (some s) kd' an' ai' mB' J1 J2 J3 J4 J5 J6) : wpKD_X42_sector MC MS post kd an ai ar mX42_disk mX42_laid mX42_waiting mX63_bytes mX64_to mX64_sector mJ1_modCount mJ2_elementData mJ2_size mJ5_elements mJ5_head mJ5_tail mJ22_cursor mJ22_remaining mJ22_lastRet mJ22_this_0 mJ23_cursor mJ23_lastRet mJ23_expectedModCount mJ23_this_0 x k := by
  have n0 := C4.2.1.2.2.1.2.1
  unfold wpKD_X42_sector
  refine kOn_of C3.1.1 ⟨C3.1.2.1, by rw [C3.1.2.2]; omega, fun r er => ?_⟩
  have e0 := C3.2.1 k hk.1 (by omega)
  refine ⟨fun er2 => ?_, fun y ey r2 er2 => ?_⟩
  rotate_left
  · have lk : ¬ ld k = 0 := fun z => by
      rw [if_pos z] at e0
      rw [er, e0] at ey; exact nomatch ey
    rw [if_neg lk] at e0
    have S := C3.2.2 k hk.1 (by omega) lk
    rw [er2, e0]
    refine ⟨by omega, by omega, H _ (lb k) _ _ _ _ _ _ _ _ _ _ kdK4.rfl ?_⟩
    rw [if_neg lk]
    exact S.fn (fun j _ _ _ => by unfold kdBo; rw [if_neg lk])
  have lk : ld k = 0 := Classical.byContradiction fun z => by
    rw [if_neg z] at e0
    rw [er, e0] at er2; exact nomatch er2
  rw [if_pos lk] at H
  refine kOn_of C4.1 ⟨C4.2.1.1.1, 1, 4, by omega, CKD_diter (by decide) C4.2.1 (fun q hq _ => ?_)⟩
  have K1 : kdK4 kd an ai mX63_bytes (va_up kd q 7) an ai mX63_bytes := kdK4.it hq
  refine ⟨(be - fi).toNat + 1, CKD_s26 (by omega) (va_up_self _ _ _) (C4.kp K1) (va_up_self _ _ _) (fun y C R L F => ?_) _ 0 none _ _ _ (by omega) (Int.le_refl 0) (Or.inl ⟨rfl, fun s s0 s1 => by omega⟩) ?_ ?_⟩
  rotate_left
  · rw [va_up_self, dqI_0 C4.2.1.2.1.2]
  · rw [va_up_self]; omega
  rcases F with ⟨e, no⟩ | ⟨m, hm, e, e2', no⟩
  · refine ⟨fun _ => ⟨2, 33, by omega, CKD_read (by decide) (C1.kp K1) hk (fun s b f hs hb K2 S _ => ⟨by omega, by omega, H s b _ _ _ _ _ _ _ _ _ _ (K1.trans K2) (S.fn (fun j j0 j1 _ => ?_))⟩)⟩, fun z ez => by (rw [e] at ez; exact (nomatch ez))⟩
    show dk (32 * k + j) = kdBo lt op ld k j
    unfold kdBo
    rw [if_pos lk]
    exact (Lt.2 k hk.1 hk.2 (fun ⟨s, hs, z⟩ => no s hs.1 (by omega) z) j j0 j1).symm
  · refine ⟨fun z => by (rw [e] at z; exact (nomatch z)), fun z ez => ?_⟩
    rw [e]
    have S := ((C4.kp K1).2.2 m hm.1 (by omega)).2
    refine ⟨by omega, by omega, H _ (wb m) _ _ _ _ _ _ _ _ _ _ K1 (S.fn (fun j j0 j1 _ => ?_))⟩
    show by' (32 * (fi + m) + j) = kdBo lt op ld k j
    unfold kdBo
    rw [if_pos lk, ← Lt.1 (fi + m) (by omega) (by omega) (fun w' a b => by rw [e2']; exact no w' a (by omega)) j j0 j1, e2']
theorem CKD_pageAt {post : Option Nat → (Nat → Nat) → (Nat → Nat) → (Nat → Int → Int) → (Nat → Option Nat) → (Nat → Int) → (Nat → Int) → (Nat → Int) → (Nat → Option Nat) → (Nat → Int) → (Nat → Int) → Prop} (hM : 3 ≤ MC ∧ 37 ≤ MS) (hp : 0 ≤ p ∧ p < 30) (hk : 0 ≤ pl p ∧ pl p < 48) (Lt : kdLt lt dk tg by' fi be) (C1 : kdC1 kd an ai mX42_disk mX42_count mX42_runs mX42_isFull mX42_changed x dq dk ru fu ch) (C2 : kdC2 kd an ai mX42_places x pq pl) (C3 : kdC3 kd an ai ar mX42_laid mX63_bytes x lq ls lb ld op) (C4 : kdC4 kd an ai ar mX42_waiting mX64_to mX64_sector mX63_bytes mJ5_elements mJ5_head mJ5_tail x d1 e1 c1 h1 w1 ws wb fi be tg by')
    (H : ∀ s b kd' an' ai' mB' J1 J2 J3 J4 J5 J6, kdK4 kd an ai mX63_bytes kd' an' ai' mB' → kdSe kd' an' ai' mB' (if ld (pl p) = 0 then 0 else 4) s b (fun j => kdBo lt op ld (pl p) j) → post (some s) kd' an' ai' mB' J1 J2 J3 J4 J5 J6) : wpKD_X42_pageAt MC MS post kd an ai ar mX42_disk mX42_places mX42_laid mX42_waiting mX63_bytes mX64_to mX64_sector mJ1_modCount mJ2_elementData mJ2_size mJ5_elements mJ5_head mJ5_tail mJ22_cursor mJ22_remaining mJ22_lastRet mJ22_this_0 mJ23_cursor mJ23_lastRet mJ23_expectedModCount mJ23_this_0 x p := by
  unfold wpKD_X42_pageAt
  refine kOn_of C2.1.1 ⟨C2.1.2.1, by rw [C2.1.2.2]; omega, 3, 37, by omega, ?_⟩
  rw [C2.2 p hp.1 hp.2]
  exact CKD_sector (by decide) hk Lt C1 C3 C4 (fun s b kd' an' ai' mB' J1 J2 J3 J4 J5 J6 K S _ => ⟨by omega, by omega, H s b kd' an' ai' mB' J1 J2 J3 J4 J5 J6 K S⟩)
/-- parts of a sector as it will be -/
theorem kdLo4 {z : Int} : (if z = 0 then (0 : Int) else 4) ≤ 4 := by split <;> decide
theorem CKD_kindO {post : Int → Prop} (S : kdSe kd an ai mX63_bytes (if ld k = 0 then 0 else 4) s b (fun j => kdBo lt op ld k j)) (hp : post (kdKo lt op ld k)) : wpKD_X63_kind post kd an ai mX63_bytes s := CKD_kind S kdLo4 hp
theorem CKD_valueO {post : Int → Prop} (S : kdSe kd an ai mX63_bytes (if ld k = 0 then 0 else 4) s b (fun j => kdBo lt op ld k j)) (hp : post (kdVo lt op ld k)) : wpKD_X63_value post kd an ai mX63_bytes s := by
  refine CKD_value S kdLo4 ?_
  unfold kdVo at hp
  unfold kdBo
  by_cases w : ld k = 0
  · rw [if_pos w] at hp
    simp only [if_pos w]
    rw [kdWi_sh]; exact hp
  · rw [if_neg w] at hp
    simp only [if_neg w]
    rw [kdWi_sh]; exact hp
theorem CKD_sourceO {post : Int → Prop} (S : kdSe kd an ai mX63_bytes (if ld k = 0 then 0 else 4) s b (fun j => kdBo lt op ld k j)) (hp : post (kdBo lt op ld k 6)) : wpKD_X63_source post kd an ai mX63_bytes s := CKD_source S (by have := @kdLo4 (ld k); omega) hp
theorem CKD_isRightO (lk : ld k = 0) (S : kdSe kd an ai mX63_bytes (if ld k = 0 then 0 else 4) s b (fun j => kdBo lt op ld k j)) (h1 : kdNo lt (32 * k) = kdSum lt k → B) (h0 : ¬ kdNo lt (32 * k) = kdSum lt k → A) : wpKD_X63_isRight (fun r => (r = 0 → A) ∧ (¬ r = 0 → B)) kd an ai mX63_bytes s := by
  rw [if_pos lk] at S
  have e : (fun j => kdBo lt op ld k j) = fun j => lt (32 * k + j) := funext fun j => by unfold kdBo; rw [if_pos lk]
  rw [e] at S
  have e2 : kdNo (fun j => lt (32 * k + j)) 0 = kdNo lt (32 * k) := by rw [kdNo_sh, Int.add_zero]
  exact CKD_isRightB S (fun z => h1 (by rw [← e2]; exact z)) (fun z => h0 (by rw [← e2]; exact z))
end

/-! KnowDisk, the component: what a step leaves as it was; the room's state as one; a sector laid -/
-- printed by kx.py: what a step leaves as it was
def kdKx (Q Qr Qd : Nat → Prop) (kd : Nat → Nat) (an : Nat → Nat) (ai : Nat → Int → Int) (ar : Nat → Int → Option Nat) (mB : Nat → Option Nat) (mO : Nat → Int) (mS : Nat → Option Nat) (mN : Nat → Int) (mU : Nat → Int) (mE : Nat → Option Nat) (mH : Nat → Int) (mT : Nat → Int) (kd' : Nat → Nat) (an' : Nat → Nat) (ai' : Nat → Int → Int) (ar' : Nat → Int → Option Nat) (mB' : Nat → Option Nat) (mO' : Nat → Int) (mS' : Nat → Option Nat) (mN' : Nat → Int) (mU' : Nat → Int) (mE' : Nat → Option Nat) (mH' : Nat → Int) (mT' : Nat → Int) : Prop := ∀ r, ¬ kd r = 0 → (kd' r = kd r ∧ an' r = an r ∧ mB' r = mB r) ∧ (mO' r = mO r ∧ mS' r = mS r) ∧ (mN' r = mN r ∧ mU' r = mU r) ∧ (¬ Q r → ai' r = ai r) ∧ (¬ Qr r → ar' r = ar r) ∧ (¬ Qd r → mE' r = mE r ∧ mH' r = mH r ∧ mT' r = mT r)
/-- the state of KnowDisk (the reference's raw state); mo bounds the list's count of changes -/
def KS : Type := (Int → Int) × (Int → Int) × (Int → Int) × (Int → Int) × (Int → Int) × (Int → Int) × (Int → Int) × (Int → Int) × (Int → Int) × (Int → Int) × (Int → Int) × (Int) × (Int) × (Int) × (Int) × (Int) × (Int) × (Int) × (Int) × (Int)
def KS.mk (dk : Int → Int) (lt : Int → Int) (op : Int → Int) (ld : Int → Int) (pl : Int → Int) (nu : Int → Int) (se : Int → Int) (ku : Int → Int) (ks : Int → Int) (tg : Int → Int) (by' : Int → Int) (ru : Int) (fu : Int) (ch : Int) (fi : Int) (be : Int) (ol : Int) (nw : Int) (kn : Int) (mo : Int) : KS := (dk, lt, op, ld, pl, nu, se, ku, ks, tg, by', ru, fu, ch, fi, be, ol, nw, kn, mo)
def KS.dk (S : KS) : Int → Int := S.1
def KS.lt (S : KS) : Int → Int := S.2.1
def KS.op (S : KS) : Int → Int := S.2.2.1
def KS.ld (S : KS) : Int → Int := S.2.2.2.1
def KS.pl (S : KS) : Int → Int := S.2.2.2.2.1
def KS.nu (S : KS) : Int → Int := S.2.2.2.2.2.1
def KS.se (S : KS) : Int → Int := S.2.2.2.2.2.2.1
def KS.ku (S : KS) : Int → Int := S.2.2.2.2.2.2.2.1
def KS.ks (S : KS) : Int → Int := S.2.2.2.2.2.2.2.2.1
def KS.tg (S : KS) : Int → Int := S.2.2.2.2.2.2.2.2.2.1
def KS.by' (S : KS) : Int → Int := S.2.2.2.2.2.2.2.2.2.2.1
def KS.ru (S : KS) : Int := S.2.2.2.2.2.2.2.2.2.2.2.1
def KS.fu (S : KS) : Int := S.2.2.2.2.2.2.2.2.2.2.2.2.1
def KS.ch (S : KS) : Int := S.2.2.2.2.2.2.2.2.2.2.2.2.2.1
def KS.fi (S : KS) : Int := S.2.2.2.2.2.2.2.2.2.2.2.2.2.2.1
def KS.be (S : KS) : Int := S.2.2.2.2.2.2.2.2.2.2.2.2.2.2.2.1
def KS.ol (S : KS) : Int := S.2.2.2.2.2.2.2.2.2.2.2.2.2.2.2.2.1
def KS.nw (S : KS) : Int := S.2.2.2.2.2.2.2.2.2.2.2.2.2.2.2.2.2.1
def KS.kn (S : KS) : Int := S.2.2.2.2.2.2.2.2.2.2.2.2.2.2.2.2.2.2.1
def KS.mo (S : KS) : Int := S.2.2.2.2.2.2.2.2.2.2.2.2.2.2.2.2.2.2.2
theorem KS.mk_dk {dk : Int → Int} {lt : Int → Int} {op : Int → Int} {ld : Int → Int} {pl : Int → Int} {nu : Int → Int} {se : Int → Int} {ku : Int → Int} {ks : Int → Int} {tg : Int → Int} {by' : Int → Int} {ru : Int} {fu : Int} {ch : Int} {fi : Int} {be : Int} {ol : Int} {nw : Int} {kn : Int} {mo : Int} : KS.dk (KS.mk dk lt op ld pl nu se ku ks tg by' ru fu ch fi be ol nw kn mo) = dk := rfl
theorem KS.mk_lt {dk : Int → Int} {lt : Int → Int} {op : Int → Int} {ld : Int → Int} {pl : Int → Int} {nu : Int → Int} {se : Int → Int} {ku : Int → Int} {ks : Int → Int} {tg : Int → Int} {by' : Int → Int} {ru : Int} {fu : Int} {ch : Int} {fi : Int} {be : Int} {ol : Int} {nw : Int} {kn : Int} {mo : Int} : KS.lt (KS.mk dk lt op ld pl nu se ku ks tg by' ru fu ch fi be ol nw kn mo) = lt := rfl
theorem KS.mk_op {dk : Int → Int} {lt : Int → Int} {op : Int → Int} {ld : Int → Int} {pl : Int → Int} {nu : Int → Int} {se : Int → Int} {ku : Int → Int} {ks : Int → Int} {tg : Int → Int} {by' : Int → Int} {ru : Int} {fu : Int} {ch : Int} {fi : Int} {be : Int} {ol : Int} {nw : Int} {kn : Int} {mo : Int} : KS.op (KS.mk dk lt op ld pl nu se ku ks tg by' ru fu ch fi be ol nw kn mo) = op := rfl
theorem KS.mk_ld {dk : Int → Int} {lt : Int → Int} {op : Int → Int} {ld : Int → Int} {pl : Int → Int} {nu : Int → Int} {se : Int → Int} {ku : Int → Int} {ks : Int → Int} {tg : Int → Int} {by' : Int → Int} {ru : Int} {fu : Int} {ch : Int} {fi : Int} {be : Int} {ol : Int} {nw : Int} {kn : Int} {mo : Int} : KS.ld (KS.mk dk lt op ld pl nu se ku ks tg by' ru fu ch fi be ol nw kn mo) = ld := rfl
theorem KS.mk_pl {dk : Int → Int} {lt : Int → Int} {op : Int → Int} {ld : Int → Int} {pl : Int → Int} {nu : Int → Int} {se : Int → Int} {ku : Int → Int} {ks : Int → Int} {tg : Int → Int} {by' : Int → Int} {ru : Int} {fu : Int} {ch : Int} {fi : Int} {be : Int} {ol : Int} {nw : Int} {kn : Int} {mo : Int} : KS.pl (KS.mk dk lt op ld pl nu se ku ks tg by' ru fu ch fi be ol nw kn mo) = pl := rfl
theorem KS.mk_nu {dk : Int → Int} {lt : Int → Int} {op : Int → Int} {ld : Int → Int} {pl : Int → Int} {nu : Int → Int} {se : Int → Int} {ku : Int → Int} {ks : Int → Int} {tg : Int → Int} {by' : Int → Int} {ru : Int} {fu : Int} {ch : Int} {fi : Int} {be : Int} {ol : Int} {nw : Int} {kn : Int} {mo : Int} : KS.nu (KS.mk dk lt op ld pl nu se ku ks tg by' ru fu ch fi be ol nw kn mo) = nu := rfl
theorem KS.mk_se {dk : Int → Int} {lt : Int → Int} {op : Int → Int} {ld : Int → Int} {pl : Int → Int} {nu : Int → Int} {se : Int → Int} {ku : Int → Int} {ks : Int → Int} {tg : Int → Int} {by' : Int → Int} {ru : Int} {fu : Int} {ch : Int} {fi : Int} {be : Int} {ol : Int} {nw : Int} {kn : Int} {mo : Int} : KS.se (KS.mk dk lt op ld pl nu se ku ks tg by' ru fu ch fi be ol nw kn mo) = se := rfl
theorem KS.mk_ku {dk : Int → Int} {lt : Int → Int} {op : Int → Int} {ld : Int → Int} {pl : Int → Int} {nu : Int → Int} {se : Int → Int} {ku : Int → Int} {ks : Int → Int} {tg : Int → Int} {by' : Int → Int} {ru : Int} {fu : Int} {ch : Int} {fi : Int} {be : Int} {ol : Int} {nw : Int} {kn : Int} {mo : Int} : KS.ku (KS.mk dk lt op ld pl nu se ku ks tg by' ru fu ch fi be ol nw kn mo) = ku := rfl
theorem KS.mk_ks {dk : Int → Int} {lt : Int → Int} {op : Int → Int} {ld : Int → Int} {pl : Int → Int} {nu : Int → Int} {se : Int → Int} {ku : Int → Int} {ks : Int → Int} {tg : Int → Int} {by' : Int → Int} {ru : Int} {fu : Int} {ch : Int} {fi : Int} {be : Int} {ol : Int} {nw : Int} {kn : Int} {mo : Int} : KS.ks (KS.mk dk lt op ld pl nu se ku ks tg by' ru fu ch fi be ol nw kn mo) = ks := rfl
theorem KS.mk_tg {dk : Int → Int} {lt : Int → Int} {op : Int → Int} {ld : Int → Int} {pl : Int → Int} {nu : Int → Int} {se : Int → Int} {ku : Int → Int} {ks : Int → Int} {tg : Int → Int} {by' : Int → Int} {ru : Int} {fu : Int} {ch : Int} {fi : Int} {be : Int} {ol : Int} {nw : Int} {kn : Int} {mo : Int} : KS.tg (KS.mk dk lt op ld pl nu se ku ks tg by' ru fu ch fi be ol nw kn mo) = tg := rfl
theorem KS.mk_by {dk : Int → Int} {lt : Int → Int} {op : Int → Int} {ld : Int → Int} {pl : Int → Int} {nu : Int → Int} {se : Int → Int} {ku : Int → Int} {ks : Int → Int} {tg : Int → Int} {by' : Int → Int} {ru : Int} {fu : Int} {ch : Int} {fi : Int} {be : Int} {ol : Int} {nw : Int} {kn : Int} {mo : Int} : KS.by' (KS.mk dk lt op ld pl nu se ku ks tg by' ru fu ch fi be ol nw kn mo) = by' := rfl
theorem KS.mk_ru {dk : Int → Int} {lt : Int → Int} {op : Int → Int} {ld : Int → Int} {pl : Int → Int} {nu : Int → Int} {se : Int → Int} {ku : Int → Int} {ks : Int → Int} {tg : Int → Int} {by' : Int → Int} {ru : Int} {fu : Int} {ch : Int} {fi : Int} {be : Int} {ol : Int} {nw : Int} {kn : Int} {mo : Int} : KS.ru (KS.mk dk lt op ld pl nu se ku ks tg by' ru fu ch fi be ol nw kn mo) = ru := rfl
theorem KS.mk_fu {dk : Int → Int} {lt : Int → Int} {op : Int → Int} {ld : Int → Int} {pl : Int → Int} {nu : Int → Int} {se : Int → Int} {ku : Int → Int} {ks : Int → Int} {tg : Int → Int} {by' : Int → Int} {ru : Int} {fu : Int} {ch : Int} {fi : Int} {be : Int} {ol : Int} {nw : Int} {kn : Int} {mo : Int} : KS.fu (KS.mk dk lt op ld pl nu se ku ks tg by' ru fu ch fi be ol nw kn mo) = fu := rfl
theorem KS.mk_ch {dk : Int → Int} {lt : Int → Int} {op : Int → Int} {ld : Int → Int} {pl : Int → Int} {nu : Int → Int} {se : Int → Int} {ku : Int → Int} {ks : Int → Int} {tg : Int → Int} {by' : Int → Int} {ru : Int} {fu : Int} {ch : Int} {fi : Int} {be : Int} {ol : Int} {nw : Int} {kn : Int} {mo : Int} : KS.ch (KS.mk dk lt op ld pl nu se ku ks tg by' ru fu ch fi be ol nw kn mo) = ch := rfl
theorem KS.mk_fi {dk : Int → Int} {lt : Int → Int} {op : Int → Int} {ld : Int → Int} {pl : Int → Int} {nu : Int → Int} {se : Int → Int} {ku : Int → Int} {ks : Int → Int} {tg : Int → Int} {by' : Int → Int} {ru : Int} {fu : Int} {ch : Int} {fi : Int} {be : Int} {ol : Int} {nw : Int} {kn : Int} {mo : Int} : KS.fi (KS.mk dk lt op ld pl nu se ku ks tg by' ru fu ch fi be ol nw kn mo) = fi := rfl
theorem KS.mk_be {dk : Int → Int} {lt : Int → Int} {op : Int → Int} {ld : Int → Int} {pl : Int → Int} {nu : Int → Int} {se : Int → Int} {ku : Int → Int} {ks : Int → Int} {tg : Int → Int} {by' : Int → Int} {ru : Int} {fu : Int} {ch : Int} {fi : Int} {be : Int} {ol : Int} {nw : Int} {kn : Int} {mo : Int} : KS.be (KS.mk dk lt op ld pl nu se ku ks tg by' ru fu ch fi be ol nw kn mo) = be := rfl
theorem KS.mk_ol {dk : Int → Int} {lt : Int → Int} {op : Int → Int} {ld : Int → Int} {pl : Int → Int} {nu : Int → Int} {se : Int → Int} {ku : Int → Int} {ks : Int → Int} {tg : Int → Int} {by' : Int → Int} {ru : Int} {fu : Int} {ch : Int} {fi : Int} {be : Int} {ol : Int} {nw : Int} {kn : Int} {mo : Int} : KS.ol (KS.mk dk lt op ld pl nu se ku ks tg by' ru fu ch fi be ol nw kn mo) = ol := rfl
theorem KS.mk_nw {dk : Int → Int} {lt : Int → Int} {op : Int → Int} {ld : Int → Int} {pl : Int → Int} {nu : Int → Int} {se : Int → Int} {ku : Int → Int} {ks : Int → Int} {tg : Int → Int} {by' : Int → Int} {ru : Int} {fu : Int} {ch : Int} {fi : Int} {be : Int} {ol : Int} {nw : Int} {kn : Int} {mo : Int} : KS.nw (KS.mk dk lt op ld pl nu se ku ks tg by' ru fu ch fi be ol nw kn mo) = nw := rfl
theorem KS.mk_kn {dk : Int → Int} {lt : Int → Int} {op : Int → Int} {ld : Int → Int} {pl : Int → Int} {nu : Int → Int} {se : Int → Int} {ku : Int → Int} {ks : Int → Int} {tg : Int → Int} {by' : Int → Int} {ru : Int} {fu : Int} {ch : Int} {fi : Int} {be : Int} {ol : Int} {nw : Int} {kn : Int} {mo : Int} : KS.kn (KS.mk dk lt op ld pl nu se ku ks tg by' ru fu ch fi be ol nw kn mo) = kn := rfl
theorem KS.mk_mo {dk : Int → Int} {lt : Int → Int} {op : Int → Int} {ld : Int → Int} {pl : Int → Int} {nu : Int → Int} {se : Int → Int} {ku : Int → Int} {ks : Int → Int} {tg : Int → Int} {by' : Int → Int} {ru : Int} {fu : Int} {ch : Int} {fi : Int} {be : Int} {ol : Int} {nw : Int} {kn : Int} {mo : Int} : KS.mo (KS.mk dk lt op ld pl nu se ku ks tg by' ru fu ch fi be ol nw kn mo) = mo := rfl
def kdC7 (dq d1 e1 d2 e2 : Nat) (lb wb : Int → Nat) (ld : Int → Int) (n : Int) : Prop := ((¬ d1 = d2 ∧ ¬ e1 = e2) ∧ ∀ k, 0 ≤ k → k < 64 → ¬ ld k = 0 → ¬ lb k = dq ∧ (∀ k', 0 ≤ k' → k' < 64 → ¬ ld k' = 0 → ¬ k = k' → ¬ lb k = lb k') ∧ ∀ i, 0 ≤ i → i < n → ¬ lb k = wb i) ∧ ∀ i, 0 ≤ i → i < n → ¬ wb i = dq
/-- the list's row e3 is none of the deques' -/
def kdDj (kd : Nat → Nat) (sa : Nat → Nat) (e3 e1 : Nat) (kn : Int) : Prop := (0 < kn → ¬ e3 = e1) ∧ lsDj kd 13 (sa 0) e3 e1
def kdOB (kd : Nat → Nat) (an : Nat → Nat) (ai : Nat → Int → Int) (al : Nat → Int → Int) (ar : Nat → Int → Option Nat) (mX42_disk : Nat → Option Nat) (mX42_count : Nat → Int) (mX42_runs : Nat → Int) (mX42_isFull : Nat → Int) (mX42_places : Nat → Option Nat) (mX42_laid : Nat → Option Nat) (mX42_changed : Nat → Int) (mX42_waiting : Nat → Option Nat) (mX42_states : Nat → Option Nat) (mX42_kept : Nat → Option Nat) (mX43_number : Nat → Int) (mX43_sectors : Nat → Int) (mX63_bytes : Nat → Option Nat) (mX64_to : Nat → Int) (mX64_sector : Nat → Option Nat) (mJ1_modCount : Nat → Int) (mJ2_elementData : Nat → Option Nat) (mJ2_size : Nat → Int) (mJ5_elements : Nat → Option Nat) (mJ5_head : Nat → Int) (mJ5_tail : Nat → Int) (mJ22_cursor : Nat → Int) (mJ22_remaining : Nat → Int) (mJ22_lastRet : Nat → Int) (mJ22_this_0 : Nat → Option Nat) (mJ23_cursor : Nat → Int) (mJ23_lastRet : Nat → Int) (mJ23_expectedModCount : Nat → Int) (mJ23_this_0 : Nat → Option Nat) (sa : Nat → Nat) (x : Nat) (S : KS) : Prop := ∃ (dq pq lq : Nat) (ls lb : Int → Nat) (d1 e1 : Nat) (c1 h1 : Int) (w1 ws wb : Int → Nat) (d2 e2 : Nat) (c2 h2 : Int) (w2 : Int → Nat) (l e3 : Nat) (w3 : Int → Nat), kdC1 kd an ai mX42_disk mX42_count mX42_runs mX42_isFull mX42_changed x dq S.dk S.ru S.fu S.ch ∧ kdC2 kd an ai mX42_places x pq S.pl ∧ kdC3 kd an ai ar mX42_laid mX63_bytes x lq ls lb S.ld S.op ∧ kdC4 kd an ai ar mX42_waiting mX64_to mX64_sector mX63_bytes mJ5_elements mJ5_head mJ5_tail x d1 e1 c1 h1 w1 ws wb S.fi S.be S.tg S.by' ∧ kdC5 kd an ar mX42_states mX43_number mX43_sectors mJ5_elements mJ5_head mJ5_tail x d2 e2 c2 h2 w2 S.ol S.nw S.nu S.se ∧ kdC6 kd an ar sa mX42_kept mX43_number mX43_sectors mJ2_elementData mJ2_size mJ1_modCount x l e3 w3 S.kn S.ku S.ks ∧ kdC7 dq d1 e1 d2 e2 lb wb S.ld (S.be - S.fi) ∧ kdDj kd sa e3 e1 S.kn ∧ kdDj kd sa e3 e2 S.kn ∧ mJ1_modCount l ≤ S.mo ∧ S.mo ≤ 90000
def kdOK (kd : Nat → Nat) (an : Nat → Nat) (ai : Nat → Int → Int) (al : Nat → Int → Int) (ar : Nat → Int → Option Nat) (mX42_disk : Nat → Option Nat) (mX42_count : Nat → Int) (mX42_runs : Nat → Int) (mX42_isFull : Nat → Int) (mX42_places : Nat → Option Nat) (mX42_laid : Nat → Option Nat) (mX42_changed : Nat → Int) (mX42_waiting : Nat → Option Nat) (mX42_states : Nat → Option Nat) (mX42_kept : Nat → Option Nat) (mX43_number : Nat → Int) (mX43_sectors : Nat → Int) (mX63_bytes : Nat → Option Nat) (mX64_to : Nat → Int) (mX64_sector : Nat → Option Nat) (mJ1_modCount : Nat → Int) (mJ2_elementData : Nat → Option Nat) (mJ2_size : Nat → Int) (mJ5_elements : Nat → Option Nat) (mJ5_head : Nat → Int) (mJ5_tail : Nat → Int) (mJ22_cursor : Nat → Int) (mJ22_remaining : Nat → Int) (mJ22_lastRet : Nat → Int) (mJ22_this_0 : Nat → Option Nat) (mJ23_cursor : Nat → Int) (mJ23_lastRet : Nat → Int) (mJ23_expectedModCount : Nat → Int) (mJ23_this_0 : Nat → Option Nat) (sa : Nat → Nat) (x : Nat) (S : KS) : Prop := kdRg S.pl S.tg S.fi S.be S.se S.ol S.nw S.ks S.kn ∧ kdLt S.lt S.dk S.tg S.by' S.fi S.be ∧ kdOB kd an ai al ar mX42_disk mX42_count mX42_runs mX42_isFull mX42_places mX42_laid mX42_changed mX42_waiting mX42_states mX42_kept mX43_number mX43_sectors mX63_bytes mX64_to mX64_sector mJ1_modCount mJ2_elementData mJ2_size mJ5_elements mJ5_head mJ5_tail mJ22_cursor mJ22_remaining mJ22_lastRet mJ22_this_0 mJ23_cursor mJ23_lastRet mJ23_expectedModCount mJ23_this_0 sa x S
theorem kd_w8 {x : Int} : (-128 ≤ w8 x ∧ w8 x < 128) ∧ w8 x % 256 = x % 256 := by
  unfold w8
  rw [Int.bmod_def]
  split <;> omega
/-- a row of bytes that holds g -/
def kdRb (f g : Int → Int) : Prop := ∀ i, 0 ≤ i → i < 32 → (-128 ≤ f i ∧ f i < 128) ∧ f i % 256 = g i
theorem kdRb.up {f g : Int → Int} {j z : Int} (R : kdRb f g) : kdRb (updI f j (w8 z)) (updI g j (z % 256)) := fun i i0 i1 => by
  by_cases e : i = j
  · rw [e, updI_s, updI_s]; exact kd_w8
  · rw [updI_n e, updI_n e]; exact R i i0 i1
theorem updI_sh {f : Int → Int} {c a v : Int} : (fun j => updI f (c + a) v (c + j)) = updI (fun j => f (c + j)) a v := funext fun j => by
  unfold updI
  by_cases e : j = a
  · rw [if_pos e, if_pos (by omega)]
  · rw [if_neg e, if_neg (by omega)]
theorem kdSt_sh {f : Int → Int} {c a v : Int} : (fun j => kdSt f (c + a) v (c + j)) = kdSt (fun j => f (c + j)) a v := by
  unfold kdSt
  simp only [Int.add_assoc]
  rw [updI_sh, updI_sh, updI_sh, updI_sh]
theorem kdSw_sh {f : Int → Int} {c a v : Int} : (fun j => kdSw f (c + a) v (c + j)) = kdSw (fun j => f (c + j)) a v := by
  unfold kdSw
  rw [Int.add_assoc, kdSt_sh, kdSt_sh]
theorem kdSt_n {f : Int → Int} {a v i : Int} (h : i < a ∨ a + 4 ≤ i) : kdSt f a v i = f i := by
  unfold kdSt
  rw [updI_n (by omega), updI_n (by omega), updI_n (by omega), updI_n (by omega)]
theorem kdSw_n {f : Int → Int} {a v i : Int} (h : i < a ∨ a + 8 ≤ i) : kdSw f a v i = f i := by
  unfold kdSw
  rw [kdSt_n (by omega), kdSt_n (by omega)]
theorem kdSt_c {f g : Int → Int} {a v i : Int} (h : f i = g i) : kdSt f a v i = kdSt g a v i := by
  have u : ∀ (f g : Int → Int) (n w : Int), f i = g i → updI f n w i = updI g n w i := fun f g n w h => by
    unfold updI
    split
    · rfl
    · exact h
  unfold kdSt
  exact u _ _ _ _ (u _ _ _ _ (u _ _ _ _ (u _ _ _ _ h)))
theorem kdSw_c {f g : Int → Int} {a v i : Int} (h : f i = g i) : kdSw f a v i = kdSw g a v i := by
  unfold kdSw
  exact kdSt_c (kdSt_c h)
/-- a sector made by of -/
def kdB3 (kind page src : Int) : Int → Int := updI (updI (updI (fun _ => 0) 4 (kind % 256)) 5 (page % 256)) 6 (src % 256)
def kdOf (kind page src v : Int) : Int → Int := kdSt (kdSw (kdB3 kind page src) 8 v) 16 0
theorem kdOf_ly {op : Int → Int} {k kind page src v j : Int} (h1 : 0 ≤ kind ∧ kind < 256) (h2 : 0 ≤ page ∧ page < 256) (h3 : 0 ≤ src ∧ src < 256) (hj : 4 ≤ j ∧ j < 32) : kdOf kind page src v j = kdLy op k kind page src v (32 * k + j) := by
  have e1 : kdLy op k kind page src v (32 * k + j) = kdSw (updI (updI (updI (kdZ op k 32) (32 * k + 4) kind) (32 * k + 5) page) (32 * k + 6) src) (32 * k + 8) v (32 * k + j) := by
    unfold kdLy kdCl
    exact kdSt_n (by omega)
  have e2 : kdSw (updI (updI (updI (kdZ op k 32) (32 * k + 4) kind) (32 * k + 5) page) (32 * k + 6) src) (32 * k + 8) v (32 * k + j) = kdSw (fun j => updI (updI (updI (kdZ op k 32) (32 * k + 4) kind) (32 * k + 5) page) (32 * k + 6) src (32 * k + j)) 8 v j := congrFun (kdSw_sh (f := updI (updI (updI (kdZ op k 32) (32 * k + 4) kind) (32 * k + 5) page) (32 * k + 6) src) (c := 32 * k) (a := 8) (v := v)) j
  have e3 : (fun j => updI (updI (updI (kdZ op k 32) (32 * k + 4) kind) (32 * k + 5) page) (32 * k + 6) src (32 * k + j)) j = kdB3 kind page src j := by
    rw [updI_sh, updI_sh, updI_sh]
    unfold kdB3
    rw [show kind % 256 = kind by omega, show page % 256 = page by omega, show src % 256 = src by omega]
    have hz : kdZ op k 32 (32 * k + j) = 0 := by unfold kdZ; rw [if_pos (by omega)]
    unfold updI
    simp only [hz]
  rw [e1, e2]
  refine Eq.trans ?_ (kdSw_c e3).symm
  unfold kdOf
  by_cases w : j < 16 ∨ 20 ≤ j
  · exact kdSt_n (by omega)
  · have z : kdSw (kdB3 kind page src) 8 v j = 0 := by
      rw [kdSw_n (by omega)]
      unfold kdB3
      rw [updI_n (by omega), updI_n (by omega), updI_n (by omega)]
    rw [z]
    unfold kdSt updI
    by_cases q3 : j = 19
    · rw [if_pos (by omega)]; rfl
    rw [if_neg (by omega)]
    by_cases q2 : j = 18
    · rw [if_pos (by omega)]; rfl
    rw [if_neg (by omega)]
    by_cases q1 : j = 17
    · rw [if_pos (by omega)]; rfl
    rw [if_neg (by omega), if_pos (by omega)]; rfl
theorem kdFs_f {pl tg se ks : Int → Int} {fi be ol nw kn : Int} (h : ¬ kdFs pl tg fi be se ol nw ks kn = -1) : ¬ kdHd pl tg fi be se ol nw ks kn (kdFs pl tg fi be se ol nw ks kn) := by
  obtain ⟨_, h1, _⟩ := fstI_s (fun j => ¬ kdHd pl tg fi be se ol nw ks kn (2 + j)) 46
  unfold kdFs at h ⊢
  by_cases w : fstI (fun j => ¬ kdHd pl tg fi be se ol nw ks kn (2 + j)) 46 < 46
  · rw [if_pos w]; exact h1 w
  · rw [if_neg w] at h; exact absurd rfl h
section
variable {kd : Nat → Nat} {an : Nat → Nat} {ai : Nat → Int → Int} {al : Nat → Int → Int} {ar : Nat → Int → Option Nat} {mX42_disk : Nat → Option Nat} {mX42_count : Nat → Int} {mX42_runs : Nat → Int} {mX42_isFull : Nat → Int} {mX42_places : Nat → Option Nat} {mX42_laid : Nat → Option Nat} {mX42_changed : Nat → Int} {mX42_waiting : Nat → Option Nat} {mX42_states : Nat → Option Nat} {mX42_kept : Nat → Option Nat} {mX43_number : Nat → Int} {mX43_sectors : Nat → Int} {mX63_bytes : Nat → Option Nat} {mX64_to : Nat → Int} {mX64_sector : Nat → Option Nat} {mJ1_modCount : Nat → Int} {mJ2_elementData : Nat → Option Nat} {mJ2_size : Nat → Int} {mJ5_elements : Nat → Option Nat} {mJ5_head : Nat → Int} {mJ5_tail : Nat → Int} {mJ22_cursor : Nat → Int} {mJ22_remaining : Nat → Int} {mJ22_lastRet : Nat → Int} {mJ22_this_0 : Nat → Option Nat} {mJ23_cursor : Nat → Int} {mJ23_lastRet : Nat → Int} {mJ23_expectedModCount : Nat → Int} {mJ23_this_0 : Nat → Option Nat} {sa : Nat → Nat} {d e q x l dq pq lq d1 e1 d2 e2 e3 s b : Nat} {cap hd n i c1 h1 c2 h2 : Int} {el f ls lb ws wb w1 w2 w3 w : Int → Nat} {MC MS kc ks' : Nat} {A B : Prop} {dk op lt ld pl tg by' nu se ku ks : Int → Int} {fi be ol nw kn k p v ru fu ch lo : Int} {fn : Int → Int} {P : Nat → Prop} {kd' an' : Nat → Nat} {ai' : Nat → Int → Int} {ar' : Nat → Int → Option Nat} {mB' mS' mE' : Nat → Option Nat} {mO' mN' mU' mH' mT' : Nat → Int} {Q Qr Qd : Nat → Prop} {kd2 an2 : Nat → Nat} {ai2 : Nat → Int → Int} {mB2 : Nat → Option Nat} {fu' : Nat}
theorem kdKx.le (K : kdKx Q Qr Qd kd an ai ar mX63_bytes mX64_to mX64_sector mX43_number mX43_sectors mJ5_elements mJ5_head mJ5_tail kd' an' ai' ar' mB' mO' mS' mN' mU' mE' mH' mT') : kLe kd an kd' an' := fun a ha => ⟨(K a ha).1.1, (K a ha).1.2.1⟩
theorem kdSe.kx (S : kdSe kd an ai mX63_bytes lo s b fn) (K : kdKx Q Qr Qd kd an ai ar mX63_bytes mX64_to mX64_sector mX43_number mX43_sectors mJ5_elements mJ5_head mJ5_tail kd' an' ai' ar' mB' mO' mS' mN' mU' mE' mH' mT') (hq : ¬ Q b) : kdSe kd' an' ai' mB' lo s b fn := by
  obtain ⟨a1, a2, a3, a4, a5⟩ := S
  obtain ⟨⟨x1, _, x4⟩, _⟩ := K s (by omega)
  obtain ⟨⟨y1, y2, _⟩, _, _, y3, _⟩ := K b (by omega)
  exact ⟨x1.trans a1, x4.trans a2, y1.trans a3, y2.trans a4, fun i i0 i1 => by rw [y3 hq]; exact a5 i i0 i1⟩
theorem kdC1.kx (C : kdC1 kd an ai mX42_disk mX42_count mX42_runs mX42_isFull mX42_changed x dq dk ru fu ch) (K : kdKx Q Qr Qd kd an ai ar mX63_bytes mX64_to mX64_sector mX43_number mX43_sectors mJ5_elements mJ5_head mJ5_tail kd' an' ai' ar' mB' mO' mS' mN' mU' mE' mH' mT') (hq : ¬ Q dq) : kdC1 kd' an' ai' mX42_disk mX42_count mX42_runs mX42_isFull mX42_changed x dq dk ru fu ch := by
  obtain ⟨⟨a1, a2, a3, a4⟩, B, c⟩ := C
  obtain ⟨⟨x1, _⟩, _⟩ := K x (by omega)
  obtain ⟨⟨y1, y2, _⟩, _, _, y3, _⟩ := K dq (by omega)
  exact ⟨⟨x1.trans a1, a2, y1.trans a3, y2.trans a4⟩, B, fun i i0 i1 => by rw [y3 hq]; exact c i i0 i1⟩
theorem kdC1.g (C : kdC1 kd an ai mX42_disk mX42_count mX42_runs mX42_isFull mX42_changed x dq dk ru fu ch) : kdC1 kd an ai mX42_disk mX42_count mX42_runs mX42_isFull (va_up mX42_changed x v) x dq dk ru fu v := ⟨C.1, ⟨C.2.1.1, C.2.1.2.1, C.2.1.2.2.1, va_up_self _ _ _⟩, C.2.2⟩
theorem kdC2.kx (C : kdC2 kd an ai mX42_places x pq pl) (K : kdKx Q Qr Qd kd an ai ar mX63_bytes mX64_to mX64_sector mX43_number mX43_sectors mJ5_elements mJ5_head mJ5_tail kd' an' ai' ar' mB' mO' mS' mN' mU' mE' mH' mT') (hq : ¬ Q pq) : kdC2 kd' an' ai' mX42_places x pq pl := by
  obtain ⟨⟨a1, a2, a3⟩, c⟩ := C
  obtain ⟨⟨y1, y2, _⟩, _, _, y3, _⟩ := K pq (by omega)
  exact ⟨⟨a1, y1.trans a2, y2.trans a3⟩, fun i i0 i1 => by rw [y3 hq]; exact c i i0 i1⟩
theorem kdC3.kx (C : kdC3 kd an ai ar mX42_laid mX63_bytes x lq ls lb ld op) (K : kdKx Q Qr Qd kd an ai ar mX63_bytes mX64_to mX64_sector mX43_number mX43_sectors mJ5_elements mJ5_head mJ5_tail kd' an' ai' ar' mB' mO' mS' mN' mU' mE' mH' mT') (hr : ¬ Qr lq) (hq : ∀ k, 0 ≤ k → k < 64 → ¬ ld k = 0 → ¬ Q (lb k)) : kdC3 kd' an' ai' ar' mX42_laid mB' x lq ls lb ld op := by
  obtain ⟨⟨a1, a2, a3⟩, b, c⟩ := C
  obtain ⟨⟨y1, y2, _⟩, _, _, _, y4, _⟩ := K lq (by omega)
  exact ⟨⟨a1, y1.trans a2, y2.trans a3⟩, by rw [y4 hr]; exact b, fun k k0 k1 kl => (c k k0 k1 kl).kx K (hq k k0 k1 kl)⟩
theorem dqD.kx (D : dqD kd an ar mJ5_elements mJ5_head mJ5_tail d e cap hd n el) (K : kdKx Q Qr Qd kd an ai ar mX63_bytes mX64_to mX64_sector mX43_number mX43_sectors mJ5_elements mJ5_head mJ5_tail kd' an' ai' ar' mB' mO' mS' mN' mU' mE' mH' mT') (hr : ¬ Qr e) (hd' : ¬ Qd d) : dqD kd' an' ar' mE' mH' mT' d e cap hd n el := by
  obtain ⟨⟨a1, a2, a3, a4, a5⟩, ⟨b1, b2⟩, ⟨t1, t2⟩, E⟩ := D
  obtain ⟨⟨x1, _⟩, _, _, _, _, x5⟩ := K d (by omega)
  obtain ⟨⟨y1, y2, _⟩, _, _, _, y4, _⟩ := K e (by omega)
  obtain ⟨z1, z2, z3⟩ := x5 hd'
  exact ⟨⟨x1.trans a1, z1.trans a2, y1.trans a3, by rw [y2]; exact a4, a5⟩, ⟨z2.trans b1, b2⟩, ⟨z3.trans t1, t2⟩, by rw [y4 hr]; exact E⟩
theorem kdC4.kx (C : kdC4 kd an ai ar mX42_waiting mX64_to mX64_sector mX63_bytes mJ5_elements mJ5_head mJ5_tail x d1 e1 c1 h1 w1 ws wb fi be tg by') (K : kdKx Q Qr Qd kd an ai ar mX63_bytes mX64_to mX64_sector mX43_number mX43_sectors mJ5_elements mJ5_head mJ5_tail kd' an' ai' ar' mB' mO' mS' mN' mU' mE' mH' mT') (hr : ¬ Qr e1) (hd' : ¬ Qd d1) (hq : ∀ i, 0 ≤ i → i < be - fi → ¬ Q (wb i)) : kdC4 kd' an' ai' ar' mX42_waiting mO' mS' mB' mE' mH' mT' x d1 e1 c1 h1 w1 ws wb fi be tg by' := by
  obtain ⟨a, D, c⟩ := C
  refine ⟨a, D.kx K hr hd', fun i i0 i1 => ?_⟩
  obtain ⟨⟨u1, u2, u3⟩, u4⟩ := c i i0 i1
  obtain ⟨⟨y1, _⟩, ⟨y2, y3⟩, _⟩ := K (w1 i) (by omega)
  exact ⟨⟨y1.trans u1, y2.trans u2, y3.trans u3⟩, u4.kx K (hq i i0 i1)⟩
theorem kdC5.kx (C : kdC5 kd an ar mX42_states mX43_number mX43_sectors mJ5_elements mJ5_head mJ5_tail x d2 e2 c2 h2 w2 ol nw nu se) (K : kdKx Q Qr Qd kd an ai ar mX63_bytes mX64_to mX64_sector mX43_number mX43_sectors mJ5_elements mJ5_head mJ5_tail kd' an' ai' ar' mB' mO' mS' mN' mU' mE' mH' mT') (hr : ¬ Qr e2) (hd' : ¬ Qd d2) : kdC5 kd' an' ar' mX42_states mN' mU' mE' mH' mT' x d2 e2 c2 h2 w2 ol nw nu se := by
  obtain ⟨a, D, c⟩ := C
  refine ⟨a, D.kx K hr hd', fun i i0 i1 => ?_⟩
  obtain ⟨u1, u2, u3⟩ := c i i0 i1
  obtain ⟨⟨y1, _⟩, _, ⟨y2, y3⟩, _⟩ := K (w2 i) (by omega)
  exact ⟨y1.trans u1, y2.trans u2, y3.trans u3⟩
theorem kdC6.kx (C : kdC6 kd an ar sa mX42_kept mX43_number mX43_sectors mJ2_elementData mJ2_size mJ1_modCount x l e3 w3 kn ku ks) (K : kdKx Q Qr Qd kd an ai ar mX63_bytes mX64_to mX64_sector mX43_number mX43_sectors mJ5_elements mJ5_head mJ5_tail kd' an' ai' ar' mB' mO' mS' mN' mU' mE' mH' mT') (hr : 0 < kn → ¬ Qr e3) : kdC6 kd' an' ar' sa mX42_kept mN' mU' mJ2_elementData mJ2_size mJ1_modCount x l e3 w3 kn ku ks := by
  obtain ⟨⟨a1, a2⟩, L, M, c⟩ := C
  obtain ⟨⟨x1, _⟩, _⟩ := K l (by omega)
  refine ⟨⟨a1, x1.trans a2⟩, ?_, M, fun i i0 i1 => ?_⟩
  · obtain ⟨p1, p2, p3, p4, _⟩ := L.mono (kd' := kd') (an' := an') (by decide) K.le
    exact ⟨p1, p2, p3, p4, fun i i0 i1 => by
      obtain ⟨ke, _, eq⟩ := L.at i0 i1
      rw [(K e3 (by omega)).2.2.2.2.1 (hr (by omega))]; exact eq⟩
  · obtain ⟨u1, u2, u3⟩ := c i i0 i1
    obtain ⟨⟨y1, _⟩, _, ⟨y2, y3⟩, _⟩ := K (w3 i) (by omega)
    exact ⟨y1.trans u1, y2.trans u2, y3.trans u3⟩
theorem kdK4.le (K : kdK4 kd an ai mX63_bytes kd' an' ai' mB') : kLe kd an kd' an' := fun a ha => ⟨(K a ha).1, (K a ha).2.1⟩
theorem kdDj.le (J : kdDj kd sa e3 e1 kn) (le : kLe kd an kd' an') (o : kd e3 = 13 ∨ e3 = sa 0) (o' : kd e1 = 13) : kdDj kd' sa e3 e1 kn := ⟨J.1, J.2.le (by decide) le o (Or.inl o')⟩
/-- after new cells: one row of bytes, one of references written -/
theorem kdKx.of4 {g : Int → Int} {g2 : Int → Option Nat} {a2 b2 : Nat} (K : kdK4 kd an ai mX63_bytes kd2 an2 ai2 mB2) : kdKx (fun r => r = a2) (fun r => r = b2) (fun _ => False) kd an ai ar mX63_bytes mX64_to mX64_sector mX43_number mX43_sectors mJ5_elements mJ5_head mJ5_tail kd2 an2 (va_up ai2 a2 g) (va_up ar b2 g2) mB2 mX64_to mX64_sector mX43_number mX43_sectors mJ5_elements mJ5_head mJ5_tail := fun r hr => by
  obtain ⟨a1, a2', a3, a4⟩ := K r hr
  exact ⟨⟨a1, a2', a4⟩, ⟨rfl, rfl⟩, ⟨rfl, rfl⟩, fun z => by rw [va_up_ne _ _ z]; exact a3, fun z => va_up_ne _ _ z, fun _ => ⟨rfl, rfl, rfl⟩⟩
theorem kdOK.kp {S : KS} (O : kdOK kd an ai al ar mX42_disk mX42_count mX42_runs mX42_isFull mX42_places mX42_laid mX42_changed mX42_waiting mX42_states mX42_kept mX43_number mX43_sectors mX63_bytes mX64_to mX64_sector mJ1_modCount mJ2_elementData mJ2_size mJ5_elements mJ5_head mJ5_tail mJ22_cursor mJ22_remaining mJ22_lastRet mJ22_this_0 mJ23_cursor mJ23_lastRet mJ23_expectedModCount mJ23_this_0 sa x S) (K : kdK4 kd an ai mX63_bytes kd' an' ai' mB') {J1 J2 J3 J5 J6 J7 : Nat → Int} {J4 J8 : Nat → Option Nat} : kdOK (kd') (an') (ai') al ar mX42_disk mX42_count mX42_runs mX42_isFull mX42_places mX42_laid mX42_changed mX42_waiting mX42_states mX42_kept mX43_number mX43_sectors (mB') mX64_to mX64_sector mJ1_modCount mJ2_elementData mJ2_size mJ5_elements mJ5_head mJ5_tail J1 J2 J3 J4 J5 J6 J7 J8 sa x S := by
  obtain ⟨Rg, Lt, dq, pq, lq, ls, lb, d1, e1, c1, h1, w1, ws, wb, d2, e2, c2, h2, w2, l, e3, w3, C1, C2, C3, C4, C5, C6, C7, D1, D2, Mo⟩ := O
  exact ⟨Rg, Lt, dq, pq, lq, ls, lb, d1, e1, c1, h1, w1, ws, wb, d2, e2, c2, h2, w2, l, e3, w3, C1.kp K, C2.kp K, C3.kp K, C4.kp K, C5.kp K, C6.kp K, C7, D1.le K.le C6.2.1.own C4.2.1.1.2.2.1, D2.le K.le C6.2.1.own C5.2.1.1.2.2.1, Mo⟩
theorem CKD_ss {P' a : Int} {K : (Nat → Int → Int) → Prop} {f : Int → Int} (hi : 0 ≤ i ∧ i < 4) (hP : (2 : Int) ^ (24 - 8 * i).toNat = P') (ha : 0 ≤ a ∧ a + 4 ≤ 32) (hs : mX63_bytes s = some b) (kb : kd b = 10) (ab : an b = 32) (h : wKD_X63_set_2 K s a v kd an mX63_bytes fu' (i + 1) (va_up ai b (updI f (a + i) (w8 (v / P'))))) : wKD_X63_set_2 K s a v kd an mX63_bytes (fu' + 1) i (va_up ai b f) := by
  rw [wKD_X63_set_2]
  refine ⟨fun w => by omega, fun _ => ⟨by omega, by omega, fun u eu => kOn_of hs ⟨kb, by rw [ab]; omega, by omega, by rw [eu]; exact kd_w8.1, fun a' ea => ⟨by omega, fun y ey => ?_⟩⟩⟩⟩
  rw [va_up_self, va_up_up, eu, hP] at ea
  rw [ea, ey]; exact h
theorem CKD_set {a : Int} {post : (Nat → Int → Int) → Prop} {f g : Int → Int} (ha : 0 ≤ a ∧ a + 4 ≤ 32) (hs : mX63_bytes s = some b) (kb : kd b = 10) (ab : an b = 32) (R : kdRb f g) (H : ∀ f', kdRb f' (kdSt g a v) → post (va_up ai b f')) : wpKD_X63_set post kd an (va_up ai b f) mX63_bytes s a v := by
  unfold wpKD_X63_set
  refine ⟨5, CKD_ss (P' := 16777216) (by decide) (by decide) ha hs kb ab (CKD_ss (P' := 65536) (by decide) (by decide) ha hs kb ab (CKD_ss (P' := 256) (by decide) (by decide) ha hs kb ab (CKD_ss (P' := 1) (by decide) (by decide) ha hs kb ab ?_)))⟩
  rw [wKD_X63_set_2]
  exact ⟨fun _ => H _ (((R.up.up).up).up), fun w => absurd (by decide) w⟩
theorem CKD_setWide {a : Int} {post : (Nat → Int → Int) → Prop} {f g : Int → Int} (ha : 0 ≤ a ∧ a + 8 ≤ 32) (hs : mX63_bytes s = some b) (kb : kd b = 10) (ab : an b = 32) (R : kdRb f g) (H : ∀ f', kdRb f' (kdSw g a v) → post (va_up ai b f')) : wpKD_X63_setWide post kd an (va_up ai b f) mX63_bytes s a v := by
  unfold wpKD_X63_setWide
  refine CKD_set (by omega) hs kb ab R (fun f' R' => ?_)
  rw [w32_id (show zR (a + 4) by omega)]
  exact CKD_set (by omega) hs kb ab R' H
theorem CKD_of {post : (Option Nat) → (Nat → Nat) → (Nat → Nat) → (Nat → Int → Int) → (Nat → Option Nat) → Prop} {kind page src : Int} (hM : 2 ≤ MC ∧ 33 ≤ MS) (H : ∀ s b kd' an' ai' mB', kd s = 0 → kd b = 0 → kdK4 kd an ai mX63_bytes kd' an' ai' mB' → kdSe kd' an' ai' mB' 0 s b (kdOf kind page src v) → post (some s) kd' an' ai' mB') : wpKD_X63_of MC MS post kd an ai mX63_bytes kind page src v 0 := by
  unfold wpKD_X63_of
  refine ⟨by omega, fun s hs m em => ⟨1, 32, by omega, ?_⟩⟩
  unfold wpKD_X63_init
  refine ⟨by omega, fun b hb a ea m2 em2 => ⟨by omega, by omega, fun _ => ?_⟩⟩
  have nb : ¬ b = s := fun e => by rw [e, va_up_self] at hb; exact absurd hb (by decide)
  have hb0 : kd b = 0 := by rw [va_up_ne _ _ nb] at hb; exact hb
  rw [em, va_up_up] at em2
  rw [em2, ea]
  have bs : va_up mX63_bytes s (some b) s = some b := va_up_self _ _ _
  have kb : va_up (va_up kd s 3) b 10 b = 10 := va_up_self _ _ _
  have ab : va_up an b 32 b = 32 := va_up_self _ _ _
  refine fun v1 ev1 => kOn_of bs ⟨kb, by rw [ab]; decide, by rw [ev1]; exact kd_w8.1, fun a1 ea1 v2 ev2 => ⟨by rw [ab]; decide, by rw [ev2]; exact kd_w8.1, fun a2 ea2 v3 ev3 => ⟨by rw [ab]; decide, by rw [ev3]; exact kd_w8.1, fun a3 ea3 => ?_⟩⟩⟩
  rw [va_up_self, va_up_up, ev1] at ea1
  rw [ea1, va_up_self, va_up_up, ev2] at ea2
  rw [ea2, va_up_self, va_up_up, ev3] at ea3
  rw [ea3]
  have R0 : kdRb (fun _ => (0 : Int)) (fun _ => 0) := fun i i0 i1 => ⟨by show -128 ≤ (0 : Int) ∧ (0 : Int) < 128; decide, rfl⟩
  have R3 : kdRb (updI (updI (updI (fun _ => 0) 4 (w8 kind)) 5 (w8 page)) 6 (w8 src)) (kdB3 kind page src) := ((R0.up).up).up
  refine ⟨by omega, CKD_setWide (by decide) bs kb ab R3 (fun f1 R4 => ⟨by omega, CKD_set (by decide) bs kb ab R4 (fun f2 R5 => ⟨by omega, by omega, ?_⟩)⟩)⟩
  refine H s b _ _ _ _ hs hb0 (fun r hr => ?_) ⟨by rw [va_up_ne _ _ (fun e => nb e.symm), va_up_self], bs, kb, ab, fun i i0 i1 => ?_⟩
  · have n1 : ¬ r = s := fun e => hr (by rw [e]; exact hs)
    have n2 : ¬ r = b := fun e => hr (by rw [e]; exact hb0)
    exact ⟨by rw [va_up_ne _ _ n2, va_up_ne _ _ n1], va_up_ne _ _ n2, va_up_ne _ _ n2, va_up_ne _ _ n1⟩
  · rw [va_up_self]
    exact ⟨(R5 i i0 i1).1, fun _ => (R5 i i0 i1).2⟩
end

/-! KnowDisk, the component: a sector laid, page, derived -/
theorem updI_cm {α : Type} {f : Int → α} {a b : Int} {u v : α} (h : ¬ a = b) : updI (updI f a u) b v = updI (updI f b v) a u := funext fun j => by
  unfold updI
  by_cases e : j = b
  · rw [if_pos e, if_neg (by omega), if_pos e]
  · rw [if_neg e, if_neg e]
theorem kd_g2 {ls : Int → Nat} {ld : Int → Int} {a : Int → Option Nat} {fs : Int} {s : Nat} (h : ∀ k, 0 ≤ k → k < 64 → a k = if ld k = 0 then none else some (ls k)) : ∀ k, 0 ≤ k → k < 64 → updI a fs (some s) k = if updI ld fs 1 k = 0 then none else some (updI ls fs s k) := fun k k0 k1 => by
  by_cases e : k = fs
  · rw [e, updI_s, updI_s, updI_s, if_neg (by decide)]
  · rw [updI_n e, updI_n e, updI_n e]; exact h k k0 k1
theorem kd_g3 {ls : Int → Nat} {ld : Int → Int} {a : Int → Option Nat} {fs : Int} (h : ∀ k, 0 ≤ k → k < 64 → a k = if ld k = 0 then none else some (ls k)) : ∀ k, 0 ≤ k → k < 64 → updI a fs none k = if updI ld fs 0 k = 0 then none else some (ls k) := fun k k0 k1 => by
  by_cases e : k = fs
  · rw [e, updI_s, updI_s, if_pos rfl]
  · rw [updI_n e, updI_n e]; exact h k k0 k1
theorem kdLy_n {op : Int → Int} {k kind page src v i : Int} (h : i < 32 * k ∨ 32 * k + 32 ≤ i) : kdLy op k kind page src v i = op i := by
  unfold kdLy kdCl
  rw [kdSt_n (by omega), kdSw_n (by omega), updI_n (by omega), updI_n (by omega), updI_n (by omega)]
  unfold kdZ
  rw [if_neg (by omega)]
theorem kdVo_L {lt op ld : Int → Int} {k : Int} : zL (kdVo lt op ld k) := by
  unfold kdVo kdWi
  split <;> exact zr_or64 _ _
section
variable {kd : Nat → Nat} {an : Nat → Nat} {ai : Nat → Int → Int} {al : Nat → Int → Int} {ar : Nat → Int → Option Nat} {mX42_disk : Nat → Option Nat} {mX42_count : Nat → Int} {mX42_runs : Nat → Int} {mX42_isFull : Nat → Int} {mX42_places : Nat → Option Nat} {mX42_laid : Nat → Option Nat} {mX42_changed : Nat → Int} {mX42_waiting : Nat → Option Nat} {mX42_states : Nat → Option Nat} {mX42_kept : Nat → Option Nat} {mX43_number : Nat → Int} {mX43_sectors : Nat → Int} {mX63_bytes : Nat → Option Nat} {mX64_to : Nat → Int} {mX64_sector : Nat → Option Nat} {mJ1_modCount : Nat → Int} {mJ2_elementData : Nat → Option Nat} {mJ2_size : Nat → Int} {mJ5_elements : Nat → Option Nat} {mJ5_head : Nat → Int} {mJ5_tail : Nat → Int} {mJ22_cursor : Nat → Int} {mJ22_remaining : Nat → Int} {mJ22_lastRet : Nat → Int} {mJ22_this_0 : Nat → Option Nat} {mJ23_cursor : Nat → Int} {mJ23_lastRet : Nat → Int} {mJ23_expectedModCount : Nat → Int} {mJ23_this_0 : Nat → Option Nat} {sa : Nat → Nat} {d e q x l dq pq lq d1 e1 d2 e2 e3 s b : Nat} {cap hd n i c1 h1 c2 h2 : Int} {el f ls lb ws wb w1 w2 w3 w : Int → Nat} {MC MS kc ks' : Nat} {A B : Prop} {dk op lt ld pl tg by' nu se ku ks : Int → Int} {fi be ol nw kn k p v ru fu ch lo : Int} {fn : Int → Int} {P : Nat → Prop} {S : KS} {kind page src : Int} {R : Int × (Int → Int) × (Int → Int) × (Int → Int) × Int}
theorem CKD_lay {post : Int → (Nat → Nat) → (Nat → Nat) → (Nat → Int → Int) → (Nat → Int → Option Nat) → (Nat → Int) → (Nat → Option Nat) → (Nat → Int) → (Nat → Int) → (Nat → Int) → (Nat → Option Nat) → (Nat → Int) → (Nat → Int) → (Nat → Int) → (Nat → Option Nat) → Prop} (hM : 5 ≤ MC ∧ 45 ≤ MS) (O : kdOK kd an ai al ar mX42_disk mX42_count mX42_runs mX42_isFull mX42_places mX42_laid mX42_changed mX42_waiting mX42_states mX42_kept mX43_number mX43_sectors mX63_bytes mX64_to mX64_sector mJ1_modCount mJ2_elementData mJ2_size mJ5_elements mJ5_head mJ5_tail mJ22_cursor mJ22_remaining mJ22_lastRet mJ22_this_0 mJ23_cursor mJ23_lastRet mJ23_expectedModCount mJ23_this_0 sa x S) (hpg : page = -1 ∨ (0 ≤ page ∧ page < 30)) (hb : (0 ≤ kind ∧ kind < 256) ∧ 0 ≤ src ∧ src < 256) (eR : R = kdLr S.fu (kdFs S.pl S.tg S.fi S.be S.se S.ol S.nw S.ks S.kn) S.op S.ld S.pl S.ch kind page src v) (H : ∀ kd' an' ai' ar' G' B' J1 J2 J3 J4 J5 J6 J7 J8, kdOK (kd') (an') (ai') al (ar') mX42_disk mX42_count mX42_runs mX42_isFull mX42_places mX42_laid (G') mX42_waiting mX42_states mX42_kept mX43_number mX43_sectors (B') mX64_to mX64_sector mJ1_modCount mJ2_elementData mJ2_size mJ5_elements mJ5_head mJ5_tail J1 J2 J3 J4 J5 J6 J7 J8 sa x (KS.mk (S.dk) (S.lt) (R.2.1) (R.2.2.1) (R.2.2.2.1) (S.nu) (S.se) (S.ku) (S.ks) (S.tg) (S.by') (S.ru) (S.fu) (R.2.2.2.2) (S.fi) (S.be) (S.ol) (S.nw) (S.kn) (S.mo)) → post R.1 kd' an' ai' ar' G' B' J1 J2 J3 J4 J5 J6 J7 J8) : wpKD_X42_lay MC MS post kd an ai ar mX42_count mX42_isFull mX42_places mX42_laid mX42_changed mX42_waiting mX42_states mX42_kept mX43_sectors mX63_bytes mX64_to mJ1_modCount mJ2_elementData mJ2_size mJ5_elements mJ5_head mJ5_tail mJ22_cursor mJ22_remaining mJ22_lastRet mJ22_this_0 mJ23_cursor mJ23_lastRet mJ23_expectedModCount mJ23_this_0 x kind page src v := by
  have O0 := O
  obtain ⟨Rg, Lt, dq, pq, lq, ls, lb, d1, e1, c1, h1, w1, ws, wb, d2, e2, c2, h2, w2, l, e3, w3, C1, C2, C3, C4, C5, C6, C7, D1, D2, Mo⟩ := O
  unfold wpKD_X42_lay
  refine ⟨3, 12, by omega, CKD_free (by decide) Rg C1 C2 C4 C5 C6 (fun kd1 J1 J2 J3 J4 J5 J6 J7 J8 K _ => ?_)⟩
  have fb := kdFs_b (pl := S.pl) (tg := S.tg) (fi := S.fi) (be := S.be) (se := S.se) (ol := S.ol) (nw := S.nw) (ks := S.ks) (kn := S.kn)
  have ff := kdFs_f (pl := S.pl) (tg := S.tg) (fi := S.fi) (be := S.be) (se := S.se) (ol := S.ol) (nw := S.nw) (ks := S.ks) (kn := S.kn)
  generalize kdFs S.pl S.tg S.fi S.be S.se S.ol S.nw S.ks S.kn = fs at fb ff eR ⊢
  have bad : page = -1 ∨ fs = -1 ∨ ¬ S.fu = 0 → post (-4) kd1 an ai ar mX42_changed mX63_bytes J1 J2 J3 J4 J5 J6 J7 J8 := fun w => by
    unfold kdLr at eR
    rw [if_pos w] at eR
    subst eR
    exact H _ _ _ _ _ _ _ _ _ _ _ _ _ _ (O0.kp K)
  rw [C1.2.1.2.2.1]
  refine ⟨fun e => ⟨by omega, by omega, bad (Or.inl e)⟩, fun e => ⟨fun e2' => ⟨by omega, by omega, bad (Or.inr (Or.inl e2'))⟩, fun e2' => ⟨fun e3' => ?_, fun e3' => ⟨by omega, by omega, bad (Or.inr (Or.inr e3'))⟩⟩⟩⟩
  refine ⟨2, 33, by omega, CKD_of (by decide) (fun s b kd2 an2 ai2 mB2 hs hb1 K2 S2 _ => ?_)⟩
  have K3 := K.trans K2
  have kb0 : kd b = 0 := Classical.byContradiction fun z => z ((K b z).1 ▸ hb1)
  have C2' := C2.kp K3
  have C3' := C3.kp K3
  have nofs : ¬ kdOp S.pl fs := fun z => ff e2' (Or.inl z)
  have hpp := Rg.1 page (by omega) (by omega)
  unfold kdLr at eR
  rw [if_neg (show ¬ (page = -1 ∨ fs = -1 ∨ ¬ S.fu = 0) by omega)] at eR
  subst eR
  have fin : ∀ (g2 : Int → Option Nat) (ai3 : Nat → Int → Int) (G : Nat → Int), (∀ k, 0 ≤ k → k < 64 → g2 k = if updI (if S.pl page = -1 then S.ld else updI S.ld (S.pl page) 0) fs 1 k = 0 then none else some (updI ls fs s k)) → ai3 = va_up ai2 pq (updI (ai2 pq) page fs) → G = va_up mX42_changed x 1 → post page kd2 an2 ai3 (va_up ar lq g2) G mB2 J1 J2 J3 J4 J5 J6 J7 J8 := fun g2 ai3 G hg e3' e4 => by
    have K5 : kdKx (fun r => r = pq) (fun r => r = lq) (fun _ => False) kd an ai ar mX63_bytes mX64_to mX64_sector mX43_number mX43_sectors mJ5_elements mJ5_head mJ5_tail kd2 an2 (va_up ai2 pq (updI (ai2 pq) page fs)) (va_up ar lq g2) mB2 mX64_to mX64_sector mX43_number mX43_sectors mJ5_elements mJ5_head mJ5_tail := kdKx.of4 K3
    have kpq := C2.1.2.1
    have klq := C3.1.2.1
    have kdq := C1.1.2.2.1
    have ke1 := C4.2.1.1.2.2.1
    have ke2 := C5.2.1.1.2.2.1
    have lbk : ∀ k, 0 ≤ k → k < 64 → ¬ S.ld k = 0 → kd (lb k) = 10 := fun k k0 k1 kl => (C3.2.2 k k0 k1 kl).2.2.1
    have wbk : ∀ i, 0 ≤ i → i < S.be - S.fi → kd (wb i) = 10 := fun i i0 i1 => (C4.2.2 i i0 i1).2.2.2.1
    have ldn : ∀ k, ¬ k = fs → ¬ updI (if S.pl page = -1 then S.ld else updI S.ld (S.pl page) 0) fs 1 k = 0 → ¬ S.ld k = 0 := fun k nk h z => h (by
      rw [updI_n nk]
      split
      · exact z
      · rw [updI_e]; split
        · rfl
        · exact z)
    rw [e3', e4]
    refine H kd2 an2 _ _ _ mB2 J1 J2 J3 J4 J5 J6 J7 J8 ⟨⟨fun p p0 p1 => ?_, Rg.2⟩, Lt, dq, pq, lq, updI ls fs s, updI lb fs b, d1, e1, c1, h1, w1, ws, wb, d2, e2, c2, h2, w2, l, e3, w3, (C1.kx K5 (fun z => ?_)).g, ⟨⟨C2.1.1, C2'.1.2⟩, fun p p0 p1 => ?_⟩, ⟨C3'.1, fun k k0 k1 => ?_, fun k k0 k1 kl => ?_⟩, C4.kx K5 (fun z => ?_) id (fun i i0 i1 z => ?_), C5.kx K5 (fun z => ?_) id, C6.kx K5 (fun n0 z => ?_), ⟨⟨C7.1.1, fun k k0 k1 kl => ?_⟩, C7.2⟩, D1.le K5.le C6.2.1.own ke1, D2.le K5.le C6.2.1.own ke2, Mo⟩
    · by_cases z : p = page
      · rw [z]; show updI S.pl page fs page = -1 ∨ (2 ≤ updI S.pl page fs page ∧ updI S.pl page fs page < 48)
        rw [updI_s]; exact Or.inr (by omega)
      · show updI S.pl page fs p = -1 ∨ (2 ≤ updI S.pl page fs p ∧ updI S.pl page fs p < 48)
        rw [updI_n z]; exact Rg.1 p p0 p1
    · rw [z] at kdq; omega
    · rw [va_up_self]
      show _ = updI S.pl page fs p
      by_cases z : p = page
      · rw [z, updI_s, updI_s]
      · rw [updI_n z, updI_n z]; exact C2'.2 p p0 p1
    · rw [va_up_self]; exact hg k k0 k1
    · by_cases z : k = fs
      · rw [z, updI_s, updI_s]
        obtain ⟨a1, a2, a3, a4, a5⟩ := S2
        refine ⟨a1, a2, a3, a4, fun i i0 i1 => ?_⟩
        have nbp : ¬ b = pq := fun z => by rw [z] at kb0; omega
        rw [va_up_ne _ _ nbp]
        exact ⟨(a5 i i0 i1).1, fun hi => ((a5 i i0 i1).2 i0).trans (kdOf_ly hb.1 (by omega) hb.2 ⟨hi, i1⟩)⟩
      · rw [updI_n z, updI_n z]
        have kl' := ldn k z kl
        refine ((C3.2.2 k k0 k1 kl').kx K5 (fun z2 => ?_)).fn (fun i i0 i1 _ => (kdLy_n (by omega)).symm)
        have := lbk k k0 k1 kl'
        rw [z2] at this; omega
    · rw [z] at ke1; omega
    · have := wbk i i0 i1
      rw [z] at this; omega
    · rw [z] at ke2; omega
    · have := (C6.2.1.at (Int.le_refl 0) n0).1
      rw [z] at this; omega
    · by_cases z : k = fs
      · rw [z, updI_s]
        refine ⟨fun w => by rw [w] at kb0; omega, fun k' k0' k1' kl' ne w => ?_, fun i i0 i1 w => ?_⟩
        · rw [updI_n (fun q => ne q.symm)] at w
          have := lbk k' k0' k1' (ldn k' (fun q => ne q.symm) kl')
          rw [← w] at this; omega
        · have := wbk i i0 i1
          rw [← w] at this; omega
      · rw [updI_n z]
        have kl2 := ldn k z kl
        obtain ⟨x1, x2, x3⟩ := C7.1.2 k k0 k1 kl2
        refine ⟨x1, fun k' k0' k1' kl' ne => ?_, x3⟩
        by_cases z' : k' = fs
        · rw [z', updI_s]
          intro w
          have := lbk k k0 k1 kl2
          rw [w] at this; omega
        · rw [updI_n z']
          exact x2 k' k0' k1' (ldn k' z' kl') ne
  refine kOn_of C3.1.1 ⟨C3'.1.2.1, by rw [C3'.1.2.2]; omega, kOn_some ⟨S2.1, fun ar1 ear1 => kOn_of C2.1.1 ⟨C2'.1.2.1, by rw [C2'.1.2.2]; omega, ?_⟩⟩⟩
  rw [C2'.2 page (by omega) (by omega)]
  refine ⟨fun w ai3 e3 G e4 => ⟨by omega, by omega, ?_⟩, fun w => ⟨by rw [C3'.1.2.2]; omega, fun ar2 ear2 ai3 e3 G e4 => ⟨by omega, by omega, ?_⟩⟩⟩
  · rw [ear1]
    refine fin _ _ _ (fun k k0 k1 => ?_) e3 e4
    rw [if_pos w]
    exact kd_g2 C3.2.1 k k0 k1
  · rw [ear1, va_up_self, va_up_up] at ear2
    rw [ear2]
    refine fin _ _ _ (fun k k0 k1 => ?_) e3 e4
    have nf : ¬ S.pl page = fs := fun z => nofs ⟨page, by omega, z⟩
    rw [if_neg w, updI_cm nf]
    exact kd_g3 (kd_g2 C3.2.1) k k0 k1
theorem kdOK.del {J1 J2 J3 J5 J6 J7 : Nat → Int} {J4 J8 : Nat → Option Nat} (O : kdOK kd an ai al ar mX42_disk mX42_count mX42_runs mX42_isFull mX42_places mX42_laid mX42_changed mX42_waiting mX42_states mX42_kept mX43_number mX43_sectors mX63_bytes mX64_to mX64_sector mJ1_modCount mJ2_elementData mJ2_size mJ5_elements mJ5_head mJ5_tail mJ22_cursor mJ22_remaining mJ22_lastRet mJ22_this_0 mJ23_cursor mJ23_lastRet mJ23_expectedModCount mJ23_this_0 sa x S) (hip : kdIp S.pl p) : ∃ pq lq, (mX42_places x = some pq ∧ kd pq = 9 ∧ an pq = 30 ∧ ai pq p = S.pl p) ∧ (mX42_laid x = some lq ∧ kd lq = 12 ∧ an lq = 64) ∧ kdOK kd an (va_up ai pq (updI (ai pq) p (-1))) al (va_up ar lq (updI (ar lq) (S.pl p) none)) mX42_disk mX42_count mX42_runs mX42_isFull mX42_places mX42_laid (va_up mX42_changed x 1) mX42_waiting mX42_states mX42_kept mX43_number mX43_sectors mX63_bytes mX64_to mX64_sector mJ1_modCount mJ2_elementData mJ2_size mJ5_elements mJ5_head mJ5_tail J1 J2 J3 J4 J5 J6 J7 J8 sa x (KS.mk (S.dk) (S.lt) (S.op) (updI S.ld (S.pl p) 0) (updI S.pl p (-1)) (S.nu) (S.se) (S.ku) (S.ks) (S.tg) (S.by') (S.ru) (S.fu) (1) (S.fi) (S.be) (S.ol) (S.nw) (S.kn) (S.mo)) := by
  obtain ⟨Rg, Lt, dq, pq, lq, ls, lb, d1, e1, c1, h1, w1, ws, wb, d2, e2, c2, h2, w2, l, e3, w3, C1, C2, C3, C4, C5, C6, C7, D1, D2, Mo⟩ := O
  refine ⟨pq, lq, ⟨C2.1.1, C2.1.2.1, C2.1.2.2, C2.2 p hip.1.1 hip.1.2⟩, C3.1, ?_⟩
  have K5 : kdKx (fun r => r = pq) (fun r => r = lq) (fun _ => False) kd an ai ar mX63_bytes mX64_to mX64_sector mX43_number mX43_sectors mJ5_elements mJ5_head mJ5_tail kd an (va_up ai pq (updI (ai pq) p (-1))) (va_up ar lq (updI (ar lq) (S.pl p) none)) mX63_bytes mX64_to mX64_sector mX43_number mX43_sectors mJ5_elements mJ5_head mJ5_tail := kdKx.of4 kdK4.rfl
  have kpq := C2.1.2.1
  have klq := C3.1.2.1
  have kdq := C1.1.2.2.1
  have ke1 := C4.2.1.1.2.2.1
  have ke2 := C5.2.1.1.2.2.1
  have ldn : ∀ k, ¬ updI S.ld (S.pl p) 0 k = 0 → ¬ S.ld k = 0 := fun k h z => h (by
    rw [updI_e]; split
    · rfl
    · exact z)
  refine ⟨⟨fun p' p0 p1 => ?_, Rg.2⟩, Lt, dq, pq, lq, ls, lb, d1, e1, c1, h1, w1, ws, wb, d2, e2, c2, h2, w2, l, e3, w3, (C1.kx K5 (fun z => ?_)).g, ⟨⟨C2.1.1, C2.1.2⟩, fun p' p0 p1 => ?_⟩, ⟨C3.1, fun k k0 k1 => ?_, fun k k0 k1 kl => ?_⟩, C4.kx K5 (fun z => ?_) id (fun i i0 i1 z => ?_), C5.kx K5 (fun z => ?_) id, C6.kx K5 (fun n0 z => ?_), ⟨⟨C7.1.1, fun k k0 k1 kl => ?_⟩, C7.2⟩, D1, D2, Mo⟩
  · show updI S.pl p (-1) p' = -1 ∨ (2 ≤ updI S.pl p (-1) p' ∧ updI S.pl p (-1) p' < 48)
    by_cases z : p' = p
    · rw [z, updI_s]; exact Or.inl rfl
    · rw [updI_n z]; exact Rg.1 p' p0 p1
  · rw [z] at kdq; omega
  · rw [va_up_self]
    show _ = updI S.pl p (-1) p'
    by_cases z : p' = p
    · rw [z, updI_s, updI_s]
    · rw [updI_n z, updI_n z]; exact C2.2 p' p0 p1
  · rw [va_up_self]; exact kd_g3 C3.2.1 k k0 k1
  · have S2 := C3.2.2 k k0 k1 (ldn k kl)
    refine S2.kx K5 (fun z => ?_)
    have := S2.2.2.1
    rw [z] at this; omega
  · rw [z] at ke1; omega
  · have := (C4.2.2 i i0 i1).2.2.2.1
    rw [z] at this; omega
  · rw [z] at ke2; omega
  · have := (C6.2.1.at (Int.le_refl 0) n0).1
    rw [z] at this; omega
  · obtain ⟨x1, x2, x3⟩ := C7.1.2 k k0 k1 (ldn k kl)
    exact ⟨x1, fun k' k0' k1' kl' ne => x2 k' k0' k1' (ldn k' kl') ne, x3⟩
theorem CKD_p75 {post : Int → (Nat → Nat) → (Nat → Nat) → (Nat → Int → Int) → (Nat → Int → Option Nat) → (Nat → Int) → (Nat → Option Nat) → (Nat → Int) → (Nat → Int) → (Nat → Int) → (Nat → Option Nat) → (Nat → Int) → (Nat → Int) → (Nat → Int) → (Nat → Option Nat) → Prop} {of_ fr : Int} (hM : kc + 8 ≤ MC ∧ ks' + 82 ≤ MS) (O : kdOK kd an ai al ar mX42_disk mX42_count mX42_runs mX42_isFull mX42_places mX42_laid mX42_changed mX42_waiting mX42_states mX42_kept mX43_number mX43_sectors mX63_bytes mX64_to mX64_sector mJ1_modCount mJ2_elementData mJ2_size mJ5_elements mJ5_head mJ5_tail mJ22_cursor mJ22_remaining mJ22_lastRet mJ22_this_0 mJ23_cursor mJ23_lastRet mJ23_expectedModCount mJ23_this_0 sa x S) (hk : 0 ≤ kind ∧ kind ≤ 3) (hfr : (fr = 1 ∧ of_ = -1 ∧ (kind = 1 ∨ kind = 2)) ∨ (fr = 0 ∧ ¬ (of_ = -1 ∧ (kind = 1 ∨ kind = 2)) ∧ kdIp S.pl of_)) (eR : R = if kind = 3 then kdLr S.fu (kdFs S.pl S.tg S.fi S.be S.se S.ol S.nw S.ks S.kn) S.op S.ld S.pl S.ch 3 (kdFp S.pl) of_ (kdTu (kdVo S.lt S.op S.ld (S.pl of_))) else if 0 < kind then kdLr S.fu (kdFs S.pl S.tg S.fi S.be S.se S.ol S.nw S.ks S.kn) S.op S.ld S.pl S.ch kind (if of_ = -1 ∧ (kind = 1 ∨ kind = 2) then kdFp S.pl else of_) 255 v else (of_, S.op, updI S.ld (S.pl of_) 0, updI S.pl of_ (-1), 1)) (H : ∀ kd' an' ai' ar' G' B' J1 J2 J3 J4 J5 J6 J7 J8, kdOK (kd') (an') (ai') al (ar') mX42_disk mX42_count mX42_runs mX42_isFull mX42_places mX42_laid (G') mX42_waiting mX42_states mX42_kept mX43_number mX43_sectors (B') mX64_to mX64_sector mJ1_modCount mJ2_elementData mJ2_size mJ5_elements mJ5_head mJ5_tail J1 J2 J3 J4 J5 J6 J7 J8 sa x (KS.mk (S.dk) (S.lt) (R.2.1) (R.2.2.1) (R.2.2.2.1) (S.nu) (S.se) (S.ku) (S.ks) (S.tg) (S.by') (S.ru) (S.fu) (R.2.2.2.2) (S.fi) (S.be) (S.ol) (S.nw) (S.kn) (S.mo)) → post R.1 kd' an' ai' ar' G' B' J1 J2 J3 J4 J5 J6 J7 J8) : wKD_X42_page_75 MC MS post x kind of_ v fr kd an ai ar mX42_disk mX42_count mX42_isFull mX42_places mX42_laid mX42_changed mX42_waiting mX42_states mX42_kept mX43_sectors mX63_bytes mX64_to mX64_sector mJ1_modCount mJ2_elementData mJ2_size mJ5_elements mJ5_head mJ5_tail mJ22_cursor mJ22_remaining mJ22_lastRet mJ22_this_0 mJ23_cursor mJ23_lastRet mJ23_expectedModCount mJ23_this_0 kc (ks') := by
  have O0 := O
  obtain ⟨Rg, Lt, dq, pq, lq, ls, lb, d1, e1, c1, h1, w1, ws, wb, d2, e2, c2, h2, w2, l, e3, w3, C1, C2, C3, C4, C5, C6, C7, D1, D2, Mo⟩ := O
  have fpb := kdFp_b (pl := S.pl)
  have fpb2 : kdFp S.pl = -1 ∨ (0 ≤ kdFp S.pl ∧ kdFp S.pl < 30) := by omega
  unfold wKD_X42_page_75
  refine ⟨fun k3 => ?_, fun k3 => ⟨fun k0 => ?_, fun k0 => ⟨fun f0 => ?_, fun f0 => ?_⟩⟩⟩
  · rw [if_pos k3] at eR
    rcases hfr with h | ⟨_, _, ip⟩
    · omega
    have q := Rg.1 of_ ip.1.1 ip.1.2
    have ne := ip.2
    have ip1 := ip.1
    refine ⟨by omega, CKD_freePage C2 ⟨3, 37, by omega, CKD_pageAt (by decide) ip.1 (by omega) Lt C1 C2 C3 C4 (fun s b kd' an' ai' mB' J1 J2 J3 J4 J5 J6 K S1 _ => kOn_some ⟨S1.1, by omega, CKD_valueO S1 ⟨by omega, CKD_derivedFrom kdVo_L ⟨5, 45, by omega, CKD_lay (S := S) (by decide) (O0.kp K) fpb2 (by omega) eR (fun kd2 an2 ai2 ar2 G2 B2 J1 J2 J3 J4 J5 J6 J7 J8 O2 _ => ⟨by omega, by omega, H _ _ _ _ _ _ _ _ _ _ _ _ _ _ O2⟩)⟩⟩⟩)⟩⟩
  · rw [if_neg k3, if_neg (by omega)] at eR
    rcases hfr with h | ⟨_, _, ip⟩
    · omega
    subst eR
    obtain ⟨pq', lq', ⟨p1, p2, p3, p4⟩, ⟨l1, l2, l3⟩, O2⟩ := O0.del (J1 := mJ22_cursor) (J2 := mJ22_remaining) (J3 := mJ22_lastRet) (J4 := mJ22_this_0) (J5 := mJ23_cursor) (J6 := mJ23_lastRet) (J7 := mJ23_expectedModCount) (J8 := mJ23_this_0) ip
    have q := Rg.1 of_ ip.1.1 ip.1.2
    have ne := ip.2
    have ip1 := ip.1
    refine kOn_of p1 ⟨p2, by rw [p3]; exact ip.1, kOn_of l1 ⟨l2, by rw [l3, p4]; omega, fun ar1 e1' ai1 e2' G e3' => ⟨by omega, by omega, ?_⟩⟩⟩
    rw [p4] at e1'
    rw [e1', e2', e3']
    exact H _ _ _ _ _ _ _ _ _ _ _ _ _ _ O2
  · rw [if_neg k3, if_pos (by omega)] at eR
    rcases hfr with h | ⟨_, nf, ip⟩
    · omega
    rw [if_neg nf] at eR
    exact ⟨5, 45, by omega, CKD_lay (S := S) (by decide) O0 (Or.inr ip.1) (by omega) eR (fun kd2 an2 ai2 ar2 G2 B2 J1 J2 J3 J4 J5 J6 J7 J8 O2 _ => ⟨by omega, by omega, H _ _ _ _ _ _ _ _ _ _ _ _ _ _ O2⟩)⟩
  · rw [if_neg k3, if_pos (by omega)] at eR
    rcases hfr with ⟨_, h⟩ | h
    · rw [if_pos h] at eR
      exact ⟨by omega, CKD_freePage C2 ⟨5, 45, by omega, CKD_lay (S := S) (by decide) O0 fpb2 (by omega) eR (fun kd2 an2 ai2 ar2 G2 B2 J1 J2 J3 J4 J5 J6 J7 J8 O2 _ => ⟨by omega, by omega, H _ _ _ _ _ _ _ _ _ _ _ _ _ _ O2⟩)⟩⟩
    · exact absurd h.1 f0
theorem CKD_p41 {post : Int → (Nat → Nat) → (Nat → Nat) → (Nat → Int → Int) → (Nat → Int → Option Nat) → (Nat → Int) → (Nat → Option Nat) → (Nat → Int) → (Nat → Int) → (Nat → Int) → (Nat → Option Nat) → (Nat → Int) → (Nat → Int) → (Nat → Int) → (Nat → Option Nat) → Prop} {of_ fr : Int} (hM : kc + 11 ≤ MC ∧ ks' + 119 ≤ MS) (O : kdOK kd an ai al ar mX42_disk mX42_count mX42_runs mX42_isFull mX42_places mX42_laid mX42_changed mX42_waiting mX42_states mX42_kept mX43_number mX43_sectors mX63_bytes mX64_to mX64_sector mJ1_modCount mJ2_elementData mJ2_size mJ5_elements mJ5_head mJ5_tail mJ22_cursor mJ22_remaining mJ22_lastRet mJ22_this_0 mJ23_cursor mJ23_lastRet mJ23_expectedModCount mJ23_this_0 sa x S) (hk : 0 ≤ kind ∧ kind ≤ 3) (hfr : (fr = 1 ∧ of_ = -1 ∧ (kind = 1 ∨ kind = 2)) ∨ (fr = 0 ∧ ¬ (of_ = -1 ∧ (kind = 1 ∨ kind = 2)))) (eR : R = pif (¬ (of_ = -1 ∧ (kind = 1 ∨ kind = 2)) ∧ ¬ kdIp S.pl of_) (-1, S.op, S.ld, S.pl, S.ch) (if kind = 3 then (if kdKo S.lt S.op S.ld (S.pl of_) = 3 then (-1, S.op, S.ld, S.pl, S.ch) else kdLr S.fu (kdFs S.pl S.tg S.fi S.be S.se S.ol S.nw S.ks S.kn) S.op S.ld S.pl S.ch 3 (kdFp S.pl) of_ (kdTu (kdVo S.lt S.op S.ld (S.pl of_)))) else if 0 < kind then kdLr S.fu (kdFs S.pl S.tg S.fi S.be S.se S.ol S.nw S.ks S.kn) S.op S.ld S.pl S.ch kind (if of_ = -1 ∧ (kind = 1 ∨ kind = 2) then kdFp S.pl else of_) 255 v else (of_, S.op, updI S.ld (S.pl of_) 0, updI S.pl of_ (-1), 1))) (H : ∀ kd' an' ai' ar' G' B' J1 J2 J3 J4 J5 J6 J7 J8, kdOK (kd') (an') (ai') al (ar') mX42_disk mX42_count mX42_runs mX42_isFull mX42_places mX42_laid (G') mX42_waiting mX42_states mX42_kept mX43_number mX43_sectors (B') mX64_to mX64_sector mJ1_modCount mJ2_elementData mJ2_size mJ5_elements mJ5_head mJ5_tail J1 J2 J3 J4 J5 J6 J7 J8 sa x (KS.mk (S.dk) (S.lt) (R.2.1) (R.2.2.1) (R.2.2.2.1) (S.nu) (S.se) (S.ku) (S.ks) (S.tg) (S.by') (S.ru) (S.fu) (R.2.2.2.2) (S.fi) (S.be) (S.ol) (S.nw) (S.kn) (S.mo)) → post R.1 kd' an' ai' ar' G' B' J1 J2 J3 J4 J5 J6 J7 J8) : wKD_X42_page_41 MC MS post x kind of_ v fr kd an ai ar mX42_disk mX42_count mX42_isFull mX42_places mX42_laid mX42_changed mX42_waiting mX42_states mX42_kept mX43_sectors mX63_bytes mX64_to mX64_sector mJ1_modCount mJ2_elementData mJ2_size mJ5_elements mJ5_head mJ5_tail mJ22_cursor mJ22_remaining mJ22_lastRet mJ22_this_0 mJ23_cursor mJ23_lastRet mJ23_expectedModCount mJ23_this_0 kc (ks') := by
  have O0 := O
  obtain ⟨Rg, Lt, dq, pq, lq, ls, lb, d1, e1, c1, h1, w1, ws, wb, d2, e2, c2, h2, w2, l, e3, w3, C1, C2, C3, C4, C5, C6, C7, D1, D2, Mo⟩ := O
  unfold wKD_X42_page_41
  refine ⟨fun f0 => ?_, fun f1 => ?_⟩
  · have nf : ¬ (of_ = -1 ∧ (kind = 1 ∨ kind = 2)) := by omega
    refine ⟨by omega, CKD_isPageB C1 C2 (fun ip => ?_) (fun np => ⟨by omega, by omega, ?_⟩)⟩
    · rw [pif_f (fun w => w.2 ip)] at eR
      have q := Rg.1 of_ ip.1.1 ip.1.2
      have ne := ip.2
      have ip1 := ip.1
      refine ⟨fun k3 => ⟨3, 37, by omega, CKD_pageAt (by decide) ip.1 (by omega) Lt C1 C2 C3 C4 (fun s b kd' an' ai' mB' J1 J2 J3 J4 J5 J6 K S1 _ => kOn_some ⟨S1.1, by omega, CKD_kindO S1 ⟨fun e => ⟨by omega, by omega, ?_⟩, fun e => ?_⟩⟩)⟩, fun k3 => ?_⟩
      · rw [if_pos k3, if_pos e] at eR
        subst eR
        exact H _ _ _ _ _ _ _ _ _ _ _ _ _ _ (O0.kp K)
      · rw [if_pos k3, if_neg e] at eR
        exact CKD_p75 (S := S) (by omega) (O0.kp K) hk (Or.inr ⟨f0, nf, ip⟩) (by rw [if_pos k3]; exact eR) H
      · rw [if_neg k3] at eR
        exact CKD_p75 (S := S) (by omega) O0 hk (Or.inr ⟨f0, nf, ip⟩) (by rw [if_neg k3]; exact eR) H
    · rw [pif_t ⟨nf, np⟩] at eR
      subst eR
      exact H _ _ _ _ _ _ _ _ _ _ _ _ _ _ O0
  · rcases hfr with h | h
    · rw [pif_f (fun w => w.1 h.2)] at eR
      refine ⟨fun k3 => by omega, fun k3 => ?_⟩
      rw [if_neg k3] at eR
      exact CKD_p75 (S := S) (by omega) O0 hk (Or.inl h) (by rw [if_neg k3]; exact eR) H
    · omega
theorem CKD_page {post : Int → (Nat → Nat) → (Nat → Nat) → (Nat → Int → Int) → (Nat → Int → Option Nat) → (Nat → Int) → (Nat → Option Nat) → (Nat → Int) → (Nat → Int) → (Nat → Int) → (Nat → Option Nat) → (Nat → Int) → (Nat → Int) → (Nat → Int) → (Nat → Option Nat) → Prop} {of_ : Int} (hM : 11 ≤ MC ∧ 119 ≤ MS) (O : kdOK kd an ai al ar mX42_disk mX42_count mX42_runs mX42_isFull mX42_places mX42_laid mX42_changed mX42_waiting mX42_states mX42_kept mX43_number mX43_sectors mX63_bytes mX64_to mX64_sector mJ1_modCount mJ2_elementData mJ2_size mJ5_elements mJ5_head mJ5_tail mJ22_cursor mJ22_remaining mJ22_lastRet mJ22_this_0 mJ23_cursor mJ23_lastRet mJ23_expectedModCount mJ23_this_0 sa x S) (eR : R = kdPg S.ru S.fu (kdFs S.pl S.tg S.fi S.be S.se S.ol S.nw S.ks S.kn) S.lt S.op S.ld S.pl S.ch kind of_ v) (H : ∀ kd' an' ai' ar' G' B' J1 J2 J3 J4 J5 J6 J7 J8, kdOK (kd') (an') (ai') al (ar') mX42_disk mX42_count mX42_runs mX42_isFull mX42_places mX42_laid (G') mX42_waiting mX42_states mX42_kept mX43_number mX43_sectors (B') mX64_to mX64_sector mJ1_modCount mJ2_elementData mJ2_size mJ5_elements mJ5_head mJ5_tail J1 J2 J3 J4 J5 J6 J7 J8 sa x (KS.mk (S.dk) (S.lt) (R.2.1) (R.2.2.1) (R.2.2.2.1) (S.nu) (S.se) (S.ku) (S.ks) (S.tg) (S.by') (S.ru) (S.fu) (R.2.2.2.2) (S.fi) (S.be) (S.ol) (S.nw) (S.kn) (S.mo)) → post R.1 kd' an' ai' ar' G' B' J1 J2 J3 J4 J5 J6 J7 J8) : wpKD_X42_page MC MS post kd an ai ar mX42_disk mX42_count mX42_runs mX42_isFull mX42_places mX42_laid mX42_changed mX42_waiting mX42_states mX42_kept mX43_sectors mX63_bytes mX64_to mX64_sector mJ1_modCount mJ2_elementData mJ2_size mJ5_elements mJ5_head mJ5_tail mJ22_cursor mJ22_remaining mJ22_lastRet mJ22_this_0 mJ23_cursor mJ23_lastRet mJ23_expectedModCount mJ23_this_0 x kind of_ v := by
  have O0 := O
  obtain ⟨Rg, Lt, dq, pq, lq, ls, lb, d1, e1, c1, h1, w1, ws, wb, d2, e2, c2, h2, w2, l, e3, w3, C1, C2, C3, C4, C5, C6, C7, D1, D2, Mo⟩ := O
  unfold kdPg at eR
  unfold wpKD_X42_page
  rw [C1.2.1.2.1]
  refine ⟨fun r0 => ⟨by omega, by omega, ?_⟩, fun r0 => ⟨fun k0 => ⟨by omega, by omega, ?_⟩, fun k0 => ⟨fun k3 => ?_, fun k3 => ⟨by omega, by omega, ?_⟩⟩⟩⟩
  · rw [if_pos r0] at eR
    subst eR
    exact H _ _ _ _ _ _ _ _ _ _ _ _ _ _ O0
  · rw [if_neg r0, if_pos (Or.inl k0)] at eR
    subst eR
    exact H _ _ _ _ _ _ _ _ _ _ _ _ _ _ O0
  · rw [if_neg r0, if_neg (by omega)] at eR
    have hk : 0 ≤ kind ∧ kind ≤ 3 := by omega
    refine ⟨fun o => ⟨fun k1 => ?_, fun k1 => ⟨fun k2 => ?_, fun k2 => ?_⟩⟩, fun o => ?_⟩
    · exact CKD_p41 (S := S) (by omega) O0 hk (Or.inr ⟨rfl, by omega⟩) eR H
    · exact CKD_p41 (S := S) (by omega) O0 hk (Or.inr ⟨rfl, by omega⟩) eR H
    · exact CKD_p41 (S := S) (by omega) O0 hk (Or.inl ⟨rfl, by omega⟩) eR H
    · exact CKD_p41 (S := S) (by omega) O0 hk (Or.inr ⟨rfl, by omega⟩) eR H
  · rw [if_neg r0, if_pos (Or.inr (by omega))] at eR
    subst eR
    exact H _ _ _ _ _ _ _ _ _ _ _ _ _ _ O0
theorem CKD_d110 {post : Int → (Nat → Nat) → (Nat → Nat) → (Nat → Int → Int) → (Nat → Int → Option Nat) → (Nat → Int) → (Nat → Option Nat) → (Nat → Int) → (Nat → Int) → (Nat → Int) → (Nat → Option Nat) → (Nat → Int) → (Nat → Int) → (Nat → Int) → (Nat → Option Nat) → Prop} {src due : Int} {Q' : Int × (Int → Int) × (Int → Int) × (Int → Int) × Int} (hM : kc + 5 ≤ MC ∧ ks' + 45 ≤ MS) (O : kdOK kd an ai al ar mX42_disk mX42_count mX42_runs mX42_isFull mX42_places mX42_laid mX42_changed mX42_waiting mX42_states mX42_kept mX43_number mX43_sectors mX63_bytes mX64_to mX64_sector mJ1_modCount mJ2_elementData mJ2_size mJ5_elements mJ5_head mJ5_tail mJ22_cursor mJ22_remaining mJ22_lastRet mJ22_this_0 mJ23_cursor mJ23_lastRet mJ23_expectedModCount mJ23_this_0 sa x S) (hp : 0 ≤ p ∧ p < 30) (hs : 0 ≤ src ∧ src < 256) (eQ : Q' = kdLr S.fu (kdFs S.pl S.tg S.fi S.be S.se S.ol S.nw S.ks S.kn) S.op S.ld S.pl S.ch 3 p src due) (eR : R = (if Q'.1 = -4 then -4 else 1, Q'.2)) (H : ∀ kd' an' ai' ar' G' B' J1 J2 J3 J4 J5 J6 J7 J8, kdOK (kd') (an') (ai') al (ar') mX42_disk mX42_count mX42_runs mX42_isFull mX42_places mX42_laid (G') mX42_waiting mX42_states mX42_kept mX43_number mX43_sectors (B') mX64_to mX64_sector mJ1_modCount mJ2_elementData mJ2_size mJ5_elements mJ5_head mJ5_tail J1 J2 J3 J4 J5 J6 J7 J8 sa x (KS.mk (S.dk) (S.lt) (R.2.1) (R.2.2.1) (R.2.2.2.1) (S.nu) (S.se) (S.ku) (S.ks) (S.tg) (S.by') (S.ru) (S.fu) (R.2.2.2.2) (S.fi) (S.be) (S.ol) (S.nw) (S.kn) (S.mo)) → post R.1 kd' an' ai' ar' G' B' J1 J2 J3 J4 J5 J6 J7 J8) : wKD_X42_derived_110 MC MS post x p src due kd an ai ar mX42_count mX42_isFull mX42_places mX42_laid mX42_changed mX42_waiting mX42_states mX42_kept mX43_sectors mX63_bytes mX64_to mJ1_modCount mJ2_elementData mJ2_size mJ5_elements mJ5_head mJ5_tail mJ22_cursor mJ22_remaining mJ22_lastRet mJ22_this_0 mJ23_cursor mJ23_lastRet mJ23_expectedModCount mJ23_this_0 kc (ks') := by
  unfold wKD_X42_derived_110
  subst eR
  refine ⟨5, 45, by omega, CKD_lay (S := S) (by decide) O (Or.inr hp) (by omega) eQ (fun kd2 an2 ai2 ar2 G2 B2 J1 J2 J3 J4 J5 J6 J7 J8 O2 _ => ⟨fun e => ⟨by omega, by omega, ?_⟩, fun e => ⟨by omega, by omega, ?_⟩⟩)⟩
  · have h := H _ _ _ _ _ _ _ _ _ _ _ _ _ _ O2
    dsimp only at h
    rw [if_pos e] at h; exact h
  · have h := H _ _ _ _ _ _ _ _ _ _ _ _ _ _ O2
    dsimp only at h
    rw [if_neg e] at h; exact h
theorem CKD_derived {post : Int → (Nat → Nat) → (Nat → Nat) → (Nat → Int → Int) → (Nat → Int → Option Nat) → (Nat → Int) → (Nat → Option Nat) → (Nat → Int) → (Nat → Int) → (Nat → Int) → (Nat → Option Nat) → (Nat → Int) → (Nat → Int) → (Nat → Int) → (Nat → Option Nat) → Prop} (hM : 11 ≤ MC ∧ 119 ≤ MS) (O : kdOK kd an ai al ar mX42_disk mX42_count mX42_runs mX42_isFull mX42_places mX42_laid mX42_changed mX42_waiting mX42_states mX42_kept mX43_number mX43_sectors mX63_bytes mX64_to mX64_sector mJ1_modCount mJ2_elementData mJ2_size mJ5_elements mJ5_head mJ5_tail mJ22_cursor mJ22_remaining mJ22_lastRet mJ22_this_0 mJ23_cursor mJ23_lastRet mJ23_expectedModCount mJ23_this_0 sa x S) (eR : R = kdDe S.ru S.fu (kdFs S.pl S.tg S.fi S.be S.se S.ol S.nw S.ks S.kn) S.lt S.op S.ld S.pl S.ch p) (H : ∀ kd' an' ai' ar' G' B' J1 J2 J3 J4 J5 J6 J7 J8, kdOK (kd') (an') (ai') al (ar') mX42_disk mX42_count mX42_runs mX42_isFull mX42_places mX42_laid (G') mX42_waiting mX42_states mX42_kept mX43_number mX43_sectors (B') mX64_to mX64_sector mJ1_modCount mJ2_elementData mJ2_size mJ5_elements mJ5_head mJ5_tail J1 J2 J3 J4 J5 J6 J7 J8 sa x (KS.mk (S.dk) (S.lt) (R.2.1) (R.2.2.1) (R.2.2.2.1) (S.nu) (S.se) (S.ku) (S.ks) (S.tg) (S.by') (S.ru) (S.fu) (R.2.2.2.2) (S.fi) (S.be) (S.ol) (S.nw) (S.kn) (S.mo)) → post R.1 kd' an' ai' ar' G' B' J1 J2 J3 J4 J5 J6 J7 J8) : wpKD_X42_derived MC MS post kd an ai ar mX42_disk mX42_count mX42_runs mX42_isFull mX42_places mX42_laid mX42_changed mX42_waiting mX42_states mX42_kept mX43_sectors mX63_bytes mX64_to mX64_sector mJ1_modCount mJ2_elementData mJ2_size mJ5_elements mJ5_head mJ5_tail mJ22_cursor mJ22_remaining mJ22_lastRet mJ22_this_0 mJ23_cursor mJ23_lastRet mJ23_expectedModCount mJ23_this_0 x p := by
  have O0 := O
  obtain ⟨Rg, Lt, dq, pq, lq, ls, lb, d1, e1, c1, h1, w1, ws, wb, d2, e2, c2, h2, w2, l, e3, w3, C1, C2, C3, C4, C5, C6, C7, D1, D2, Mo⟩ := O
  unfold kdDe at eR
  unfold wpKD_X42_derived
  rw [C1.2.1.2.1]
  refine ⟨fun r0 => ⟨by omega, by omega, ?_⟩, fun r0 => ⟨by omega, CKD_isPageB C1 C2 (fun ip => ?_) (fun np => ⟨by omega, by omega, ?_⟩)⟩⟩
  · rw [if_pos r0] at eR
    subst eR
    exact H _ _ _ _ _ _ _ _ _ _ _ _ _ _ O0
  rotate_left
  · rw [if_neg r0, pif_f (fun w => np w.1)] at eR
    subst eR
    exact H _ _ _ _ _ _ _ _ _ _ _ _ _ _ O0
  rw [if_neg r0] at eR
  have q := Rg.1 p ip.1.1 ip.1.2
  have ne := ip.2
  refine ⟨3, 37, by omega, CKD_pageAt (by decide) ip.1 (by omega) Lt C1 C2 C3 C4 (fun s b kd1 an1 ai1 mB1 I1 I2 I3 I4 I5 I6 K1 S1 _ => kOn_some ⟨S1.1, by omega, CKD_kindO S1 ⟨fun k3 => ⟨by omega, CKD_sourceO S1 ⟨by omega, CKD_isPageB (C1.kp K1) (C2.kp K1) (fun ip2 => ?_) (fun np2 => ⟨by omega, by omega, ?_⟩)⟩⟩, fun k3 => ⟨by omega, by omega, ?_⟩⟩⟩)⟩
  rotate_left
  · rw [pif_t ⟨ip, k3⟩, pif_f np2] at eR
    subst eR
    exact H _ _ _ _ _ _ _ _ _ _ _ _ _ _ (O0.kp K1)
  · rw [pif_f (fun w => k3 w.2)] at eR
    subst eR
    exact H _ _ _ _ _ _ _ _ _ _ _ _ _ _ (O0.kp K1)
  rw [pif_t ⟨ip, k3⟩, pif_t ip2] at eR
  generalize kdBo S.lt S.op S.ld (S.pl p) 6 = src at eR ip2 ⊢
  have q2 := Rg.1 src ip2.1.1 ip2.1.2
  have ne2 := ip2.2
  have ip21 := ip2.1
  refine ⟨3, 37, by omega, CKD_pageAt (by decide) ip2.1 (by omega) Lt (C1.kp K1) (C2.kp K1) (C3.kp K1) (C4.kp K1) (fun s2 b2 kd2 an2 ai2 mB2 J1 J2 J3 J4 J5 J6 K2 S2 _ => kOn_some ⟨S2.1, by omega, CKD_valueO S2 ⟨by omega, CKD_derivedFrom kdVo_L ?_⟩⟩)⟩
  have K3 := K1.trans K2
  have O3 := O0.kp (J1 := J1) (J2 := J2) (J3 := J3) (J4 := J4) (J5 := J5) (J6 := J6) (J7 := mJ23_expectedModCount) (J8 := mJ23_this_0) K3
  have C2' := C2.kp K3
  have C3' := C3.kp K3
  have S1' := S1.kp K2
  generalize kdTu (kdVo S.lt S.op S.ld (S.pl src)) = due at eR ⊢
  refine kOn_of C2.1.1 ⟨C2'.1.2.1, by rw [C2'.1.2.2]; exact ip.1, kOn_of C3.1.1 ⟨C3'.1.2.1, ?_⟩⟩
  rw [C2'.2 p ip.1.1 ip.1.2, C3'.1.2.2]
  refine ⟨by omega, fun r er => ⟨fun rn => ⟨by omega, ?_⟩, fun y ry => ⟨by omega, ?_⟩⟩⟩
  · have lk : S.ld (S.pl p) = 0 := Classical.byContradiction fun z => by
      have e0 := C3.2.1 (S.pl p) (by omega) (by omega)
      rw [if_neg z] at e0
      rw [er, e0] at rn; exact nomatch rn
    refine CKD_isRightO lk S1' (fun good => ⟨by omega, CKD_valueO S1' ⟨fun e => ⟨by omega, by omega, ?_⟩, fun e => ?_⟩⟩) (fun bad => ?_)
    · rw [if_pos ⟨Or.inr good, e⟩] at eR
      subst eR
      exact H _ _ _ _ _ _ _ _ _ _ _ _ _ _ O3
    · rw [if_neg (fun w => e w.2)] at eR
      exact CKD_d110 (S := S) (by omega) O3 ip.1 (by omega) rfl eR H
    · rw [if_neg (fun w => w.1.elim (fun z => z lk) bad)] at eR
      exact CKD_d110 (S := S) (by omega) O3 ip.1 (by omega) rfl eR H
  · have lk : ¬ S.ld (S.pl p) = 0 := fun z => by
      have e0 := C3.2.1 (S.pl p) (by omega) (by omega)
      rw [if_pos z] at e0
      rw [er, e0] at ry; exact nomatch ry
    refine CKD_valueO S1' ⟨fun e => ⟨by omega, by omega, ?_⟩, fun e => ?_⟩
    · rw [if_pos ⟨Or.inl lk, e⟩] at eR
      subst eR
      exact H _ _ _ _ _ _ _ _ _ _ _ _ _ _ O3
    · rw [if_neg (fun w => e w.2)] at eR
      exact CKD_d110 (S := S) (by omega) O3 ip.1 (by omega) rfl eR H
end

/-! KnowDisk, the component: a sector's bytes set and closed; one more waits -/
theorem kdSt_o {f g : Int → Int} {a v i : Int} (h : a ≤ i ∧ i < a + 4) : kdSt f a v i = kdSt g a v i := by
  unfold kdSt updI
  by_cases q3 : i = a + 3
  · rw [if_pos q3, if_pos q3]
  rw [if_neg q3, if_neg q3]
  by_cases q2 : i = a + 2
  · rw [if_pos q2, if_pos q2]
  rw [if_neg q2, if_neg q2]
  by_cases q1 : i = a + 1
  · rw [if_pos q1, if_pos q1]
  rw [if_neg q1, if_neg q1, if_pos (show i = a + 0 by omega), if_pos (show i = a + 0 by omega)]
theorem kdSm_c {f g : Int → Int} : ∀ n : Nat, (∀ i, 4 ≤ i → i < 4 + (n : Int) → f i = g i) → kdSm f n = kdSm g n
  | 0, _ => rfl
  | n + 1, h => by
    rw [kdSm, kdSm, kdSm_c n (fun i i0 i1 => h i i0 (by omega)), h (4 + (n : Int)) (by omega) (by omega)]
theorem va_up_it {α : Type} {f : Nat → α} {b : Nat} : va_up f b (f b) = f := funext fun z => by
  by_cases w : z = b
  · rw [w, va_up_self]
  · rw [va_up_ne _ _ w]
theorem kdSe.le {kd an kd' an' : Nat → Nat} {ai : Nat → Int → Int} {mB : Nat → Option Nat} {lo : Int} {s b : Nat} {fn : Int → Int} (S : kdSe kd an ai mB lo s b fn) (le : kLe kd an kd' an') : kdSe kd' an' ai mB lo s b fn := by
  obtain ⟨a1, a2, a3, a4, a5⟩ := S
  exact ⟨(le s (by omega)).1.trans a1, a2, (le b (by omega)).1.trans a3, (le b (by omega)).2.trans a4, a5⟩
theorem dqD.ar' {kd an : Nat → Nat} {ar ar' : Nat → Int → Option Nat} {mE : Nat → Option Nat} {mH mT : Nat → Int} {d e : Nat} {cap hd n : Int} {el : Int → Nat} (D : dqD kd an ar mE mH mT d e cap hd n el) (h : ar' e = ar e) : dqD kd an ar' mE mH mT d e cap hd n el := ⟨D.1, D.2.1, D.2.2.1, by rw [h]; exact D.2.2.2⟩
section
variable {kd : Nat → Nat} {an : Nat → Nat} {ai : Nat → Int → Int} {al : Nat → Int → Int} {ar : Nat → Int → Option Nat} {mX42_disk : Nat → Option Nat} {mX42_count : Nat → Int} {mX42_runs : Nat → Int} {mX42_isFull : Nat → Int} {mX42_places : Nat → Option Nat} {mX42_laid : Nat → Option Nat} {mX42_changed : Nat → Int} {mX42_waiting : Nat → Option Nat} {mX42_states : Nat → Option Nat} {mX42_kept : Nat → Option Nat} {mX43_number : Nat → Int} {mX43_sectors : Nat → Int} {mX63_bytes : Nat → Option Nat} {mX64_to : Nat → Int} {mX64_sector : Nat → Option Nat} {mJ1_modCount : Nat → Int} {mJ2_elementData : Nat → Option Nat} {mJ2_size : Nat → Int} {mJ5_elements : Nat → Option Nat} {mJ5_head : Nat → Int} {mJ5_tail : Nat → Int} {mJ22_cursor : Nat → Int} {mJ22_remaining : Nat → Int} {mJ22_lastRet : Nat → Int} {mJ22_this_0 : Nat → Option Nat} {mJ23_cursor : Nat → Int} {mJ23_lastRet : Nat → Int} {mJ23_expectedModCount : Nat → Int} {mJ23_this_0 : Nat → Option Nat} {sa : Nat → Nat} {d e q x l dq pq lq d1 e1 d2 e2 e3 s b : Nat} {cap hd n i c1 h1 c2 h2 : Int} {el f ls lb ws wb w1 w2 w3 w : Int → Nat} {MC MS kc ks' : Nat} {A B : Prop} {dk op lt ld pl tg by' nu se ku ks : Int → Int} {fi be ol nw kn k p v ru fu ch lo : Int} {fn : Int → Int} {P : Nat → Prop} {kd' an' : Nat → Nat} {ai' : Nat → Int → Int} {ar' : Nat → Int → Option Nat} {mB' mS' mE' : Nat → Option Nat} {mO' mN' mU' mH' mT' : Nat → Int} {Q Qr Qd : Nat → Prop} {S : KS} {a to fr : Int} {src op' ld' : Int → Int} {e' : Nat}
theorem CKD_setS {post : (Nat → Int → Int) → Prop} (S : kdSe kd an ai mX63_bytes lo s b fn) (ha : 0 ≤ a ∧ a + 4 ≤ 32) (H : ∀ f', kdSe kd an (va_up ai b f') mX63_bytes lo s b (kdSt fn a v) → post (va_up ai b f')) : wpKD_X63_set post kd an ai mX63_bytes s a v := by
  have R : kdRb (ai b) (fun i => ai b i % 256) := fun i i0 i1 => ⟨(S.2.2.2.2 i i0 i1).1, rfl⟩
  have h := CKD_set (kd := kd) (an := an) (ai := ai) (mX63_bytes := mX63_bytes) (post := post) (v := v) ha S.2.1 S.2.2.1 S.2.2.2.1 R (fun f' R' => H f' ⟨S.1, S.2.1, S.2.2.1, S.2.2.2.1, fun i i0 i1 => by
    rw [va_up_self]
    exact ⟨(R' i i0 i1).1, fun hl => ((R' i i0 i1).2).trans (kdSt_c ((S.2.2.2.2 i i0 i1).2 hl))⟩⟩)
  rw [va_up_it] at h
  exact h
theorem CKD_setWS {post : (Nat → Int → Int) → Prop} (S : kdSe kd an ai mX63_bytes lo s b fn) (ha : 0 ≤ a ∧ a + 8 ≤ 32) (H : ∀ f', kdSe kd an (va_up ai b f') mX63_bytes lo s b (kdSw fn a v) → post (va_up ai b f')) : wpKD_X63_setWide post kd an ai mX63_bytes s a v := by
  unfold wpKD_X63_setWide
  refine CKD_setS S (by omega) (fun f' S' => ?_)
  rw [w32_id (show zR (a + 4) by omega)]
  refine CKD_setS S' (by omega) (fun f2 S2 => ?_)
  rw [va_up_up] at S2 ⊢
  exact H f2 S2
theorem CKD_close {post : (Nat → Int → Int) → Prop} (S : kdSe kd an ai mX63_bytes lo s b fn) (hl : lo ≤ 4) (H : ∀ f', kdSe kd an (va_up ai b f') mX63_bytes 0 s b (kdSt fn 0 (kdSm fn 28)) → post (va_up ai b f')) : wpKD_X63_close post kd an ai mX63_bytes s := by
  unfold wpKD_X63_close
  have R : kdRb (ai b) (fun i => ai b i % 256) := fun i i0 i1 => ⟨(S.2.2.2.2 i i0 i1).1, rfl⟩
  refine CKD_sum S hl ?_
  have h := CKD_set (kd := kd) (an := an) (ai := ai) (mX63_bytes := mX63_bytes) (post := post) (v := kdSm fn 28) (a := 0) (by decide) S.2.1 S.2.2.1 S.2.2.2.1 R (fun f' R' => H f' ⟨S.1, S.2.1, S.2.2.1, S.2.2.2.1, fun i i0 i1 => by
    rw [va_up_self]
    refine ⟨(R' i i0 i1).1, fun _ => ((R' i i0 i1).2).trans ?_⟩
    by_cases w : 4 ≤ i
    · exact kdSt_c ((S.2.2.2.2 i i0 i1).2 (by omega))
    · exact kdSt_o (by omega)⟩)
  rw [va_up_it] at h
  exact h
theorem kd_queue (Rg : kdRg S.pl S.tg S.fi S.be S.se S.ol S.nw S.ks S.kn) (Lt : kdLt S.lt S.dk S.tg S.by' S.fi S.be) (C1 : kdC1 kd an ai mX42_disk mX42_count mX42_runs mX42_isFull mX42_changed x dq S.dk S.ru S.fu S.ch) (C2 : kdC2 kd an ai mX42_places x pq S.pl) (C3 : kdC3 kd an ai ar mX42_laid mX63_bytes x lq ls lb S.ld S.op) (C4 : kdC4 kd an ai ar mX42_waiting mX64_to mX64_sector mX63_bytes mJ5_elements mJ5_head mJ5_tail x d1 e1 c1 h1 w1 ws wb S.fi S.be S.tg S.by') (C5 : kdC5 kd an ar mX42_states mX43_number mX43_sectors mJ5_elements mJ5_head mJ5_tail x d2 e2 c2 h2 w2 S.ol S.nw S.nu S.se) (C6 : kdC6 kd an ar sa mX42_kept mX43_number mX43_sectors mJ2_elementData mJ2_size mJ1_modCount x l e3 w3 S.kn S.ku S.ks) (C7 : kdC7 dq d1 e1 d2 e2 lb wb S.ld (S.be - S.fi)) (D1 : kdDj kd sa e3 e1 S.kn) (D2 : kdDj kd sa e3 e2 S.kn) (Mo : mJ1_modCount l ≤ S.mo ∧ S.mo ≤ 90000) (K : kdKx Q Qr Qd kd an ai ar mX63_bytes mX64_to mX64_sector mX43_number mX43_sectors mJ5_elements mJ5_head mJ5_tail kd' an' ai' ar' mB' mO' mS' mN' mU' mE' mH' mT') (hQ : ∀ r, Q r → r = b) (hR : ∀ r, Qr r → r = e1 ∨ r = lq) (hD : ∀ r, Qd r → r = d1) (nb : ¬ b = dq ∧ ¬ b = pq ∧ ∀ i, 0 ≤ i → i < S.be - S.fi → ¬ wb i = b) (hl : ∀ k, 0 ≤ k → k < 64 → ¬ ld' k = 0 → ¬ S.ld k = 0 ∧ ¬ lb k = b ∧ ∀ i, 0 ≤ i → i < 32 → 4 ≤ i → S.op (32 * k + i) = op' (32 * k + i)) (hlq : ∀ k, 0 ≤ k → k < 64 → ar' lq k = if ld' k = 0 then none else some (ls k)) (D' : dqD kd' an' ar' mE' mH' mT' d1 e' cap hd (S.be - S.fi + 1) (updI w1 (S.be - S.fi) q)) (he : e' = e1 ∨ kd e' = 0) (hq : kd' q = 4 ∧ mO' q = to ∧ mS' q = some s) (Sq : kdSe kd' an' ai' mB' 0 s b (fun j => src (32 * fr + j))) (ht : 0 ≤ to ∧ to < 48) (hbe : S.be < 1200) : kdOK (kd') (an') (ai') al (ar') mX42_disk mX42_count mX42_runs mX42_isFull mX42_places mX42_laid mX42_changed mX42_waiting mX42_states mX42_kept (mN') (mU') (mB') (mO') (mS') mJ1_modCount mJ2_elementData mJ2_size (mE') (mH') (mT') mJ22_cursor mJ22_remaining mJ22_lastRet mJ22_this_0 mJ23_cursor mJ23_lastRet mJ23_expectedModCount mJ23_this_0 sa x (KS.mk (S.dk) (kdCn S.lt to src fr 32) (op') (ld') (S.pl) (S.nu) (S.se) (S.ku) (S.ks) (updI S.tg S.be to) (kdCn S.by' S.be src fr 32) (S.ru) (S.fu) (S.ch) (S.fi) (S.be + 1) (S.ol) (S.nw) (S.kn) (S.mo)) := by
  obtain ⟨r1, r2, r3, r4, r5, r6⟩ := Rg
  have kpq := C2.1.2.1
  have klq := C3.1.2.1
  have ke1 := C4.2.1.1.2.2.1
  have ke2 := C5.2.1.1.2.2.1
  have cin : ∀ (r : Int → Int) (to' j : Int), 0 ≤ j → j < 32 → kdCn r to' src fr 32 (32 * to' + j) = src (32 * fr + j) := fun r to' j j0 j1 => by
    unfold kdCn
    rw [if_pos (by omega), show 32 * to' + j - 32 * to' = j by omega]
  have cout : ∀ (r : Int → Int) (to' k' j : Int), 0 ≤ j → j < 32 → ¬ k' = to' → kdCn r to' src fr 32 (32 * k' + j) = r (32 * k' + j) := fun r to' k' j j0 j1 nk => by
    unfold kdCn
    rw [if_neg (by omega)]
  have re3 : 0 < S.kn → ¬ Qr e3 := fun n0 z => by
    have k3 := (C6.2.1.at (Int.le_refl 0) n0).1
    rcases hR _ z with z | z
    · exact D1.1 n0 z
    · rw [z] at k3; omega
  refine ⟨⟨r1, fun s' s0 s1 => ?_, r3, r4, by dsimp only [KS.mk_dk, KS.mk_lt, KS.mk_op, KS.mk_ld, KS.mk_pl, KS.mk_nu, KS.mk_se, KS.mk_ku, KS.mk_ks, KS.mk_tg, KS.mk_by, KS.mk_ru, KS.mk_fu, KS.mk_ch, KS.mk_fi, KS.mk_be, KS.mk_ol, KS.mk_nw, KS.mk_kn, KS.mk_mo]; omega, r6⟩, ⟨fun w w0 wl no j j0 j1 => ?_, fun k' k0 k1 nw' j j0 j1 => ?_⟩, dq, pq, lq, ls, lb, d1, e', cap, hd, updI w1 (S.be - S.fi) q, updI ws (S.be - S.fi) s, updI wb (S.be - S.fi) b, d2, e2, c2, h2, w2, l, e3, w3, C1.kx K (fun z => nb.1 (hQ _ z).symm), C2.kx K (fun z => nb.2.1 (hQ _ z).symm), ⟨⟨C3.1.1, ?_⟩, hlq, fun k' k0 k1 kl => ?_⟩, ⟨C4.1, ?_, fun i' i0 i1 => ?_⟩, C5.kx K (fun z => ?_) (fun z => ?_), C6.kx K re3, ⟨⟨⟨C7.1.1.1, ?_⟩, fun k' k0 k1 kl => ?_⟩, fun i' i0 i1 => ?_⟩, ⟨fun n0 => ?_, ?_⟩, D2.le K.le C6.2.1.own ke2, Mo⟩
  · show 0 ≤ updI S.tg S.be to s' ∧ updI S.tg S.be to s' < 48
    by_cases z : s' = S.be
    · rw [z, updI_s]; exact ht
    · rw [updI_n z]
      have : s' < S.be + 1 := s1
      exact r2 s' s0 (by omega)
  · dsimp only [KS.mk_dk, KS.mk_lt, KS.mk_op, KS.mk_ld, KS.mk_pl, KS.mk_nu, KS.mk_se, KS.mk_ku, KS.mk_ks, KS.mk_tg, KS.mk_by, KS.mk_ru, KS.mk_fu, KS.mk_ch, KS.mk_fi, KS.mk_be, KS.mk_ol, KS.mk_nw, KS.mk_kn, KS.mk_mo] at *
    by_cases z : w = S.be
    · rw [z, updI_s, cin _ _ _ j0 j1, cin _ _ _ j0 j1]
    · have nt : ¬ to = S.tg w := fun q => no S.be (by omega) (by omega) (by rw [updI_s, updI_n z]; exact q)
      rw [updI_n z, cout _ _ _ _ j0 j1 (fun q => nt q.symm), cout _ _ _ _ j0 j1 z]
      exact Lt.1 w w0 (by omega) (fun w' a b => by
        have := no w' a (by omega)
        rw [updI_n (by omega), updI_n z] at this; exact this) j j0 j1
  · dsimp only [KS.mk_dk, KS.mk_lt, KS.mk_op, KS.mk_ld, KS.mk_pl, KS.mk_nu, KS.mk_se, KS.mk_ku, KS.mk_ks, KS.mk_tg, KS.mk_by, KS.mk_ru, KS.mk_fu, KS.mk_ch, KS.mk_fi, KS.mk_be, KS.mk_ol, KS.mk_nw, KS.mk_kn, KS.mk_mo] at *
    have nk : ¬ k' = to := fun z => nw' ⟨S.be, by omega, by rw [updI_s]; exact z.symm⟩
    rw [cout _ _ _ _ j0 j1 nk]
    refine Lt.2 k' k0 k1 (fun ⟨s', hs, e⟩ => nw' ⟨s', by omega, ?_⟩) j j0 j1
    rw [updI_n (by omega)]; exact e
  · obtain ⟨⟨y1, y2, _⟩, _⟩ := K lq (by omega)
    exact ⟨y1.trans C3.1.2.1, y2.trans C3.1.2.2⟩
  · obtain ⟨a1, a2, a3⟩ := hl k' k0 k1 kl
    exact ((C3.2.2 k' k0 k1 a1).kx K (fun z => a2 (hQ _ z))).fn a3
  · show dqD kd' an' ar' mE' mH' mT' d1 e' cap hd (S.be + 1 - S.fi) _
    rw [show S.be + 1 - S.fi = S.be - S.fi + 1 by omega]; exact D'
  · have i1' : i' < S.be + 1 - S.fi := i1
    dsimp only [KS.mk_dk, KS.mk_lt, KS.mk_op, KS.mk_ld, KS.mk_pl, KS.mk_nu, KS.mk_se, KS.mk_ku, KS.mk_ks, KS.mk_tg, KS.mk_by, KS.mk_ru, KS.mk_fu, KS.mk_ch, KS.mk_fi, KS.mk_be, KS.mk_ol, KS.mk_nw, KS.mk_kn, KS.mk_mo]
    by_cases z : i' = S.be - S.fi
    · rw [z, updI_s, updI_s, updI_s, show S.fi + (S.be - S.fi) = S.be by omega, updI_s]
      exact ⟨hq, Sq.fn (fun j j0 j1 _ => (cin _ _ _ j0 j1).symm)⟩
    · obtain ⟨⟨u1, u2, u3⟩, u4⟩ := C4.2.2 i' i0 (by omega)
      obtain ⟨⟨y1, _⟩, ⟨y2, y3⟩, _⟩ := K (w1 i') (by omega)
      rw [updI_n z, updI_n z, updI_n z, updI_n (by omega)]
      exact ⟨⟨y1.trans u1, y2.trans u2, y3.trans u3⟩, (u4.kx K (fun z2 => nb.2.2 i' i0 (by omega) (hQ _ z2))).fn (fun j j0 j1 _ => (cout _ _ _ _ j0 j1 (by omega)).symm)⟩
  · rcases hR _ z with z | z
    · exact C7.1.1.2 z.symm
    · rw [z] at ke2; omega
  · exact C7.1.1.1 (hD _ z).symm
  · rcases he with z | z
    · rw [z]; exact C7.1.1.2
    · intro z2; rw [z2] at z; omega
  · obtain ⟨a1, a2, _⟩ := hl k' k0 k1 kl
    obtain ⟨x1, x2, x3⟩ := C7.1.2 k' k0 k1 a1
    refine ⟨x1, fun k2 k20 k21 kl2 ne => x2 k2 k20 k21 (hl k2 k20 k21 kl2).1 ne, fun i' i0 i1 => ?_⟩
    have i1' : i' < S.be + 1 - S.fi := i1
    by_cases z : i' = S.be - S.fi
    · rw [z, updI_s]; exact a2
    · rw [updI_n z]; exact x3 i' i0 (by omega)
  · have i1' : i' < S.be + 1 - S.fi := i1
    by_cases z : i' = S.be - S.fi
    · rw [z, updI_s]; exact nb.1
    · rw [updI_n z]; exact C7.2 i' i0 (by omega)
  · have k3 := (C6.2.1.at (Int.le_refl 0) n0).1
    rcases he with z | z
    · rw [z]; exact D1.1 n0
    · intro z2; rw [z2] at k3; omega
  · have h13 : kd e1 = 13 := ke1
    rcases he with z | z
    · rw [z]; exact D1.2.le (by decide) K.le C6.2.1.own (Or.inl ke1)
    · exact (D1.2.symm.up (by decide) K.le C6.2.1.own (Or.inr z)).symm
end

/-! KnowDisk, the component: commit -/
def kdS6 (S : KS) (Q : kdQt) : KS := (KS.mk (S.dk) (Q.1) (Q.2.1) (Q.2.2.1) (S.pl) (S.nu) (S.se) (S.ku) (S.ks) (Q.2.2.2.1) (Q.2.2.2.2.1) (S.ru) (S.fu) (S.ch) (S.fi) (Q.2.2.2.2.2) (S.ol) (S.nw) (S.kn) (S.mo))
theorem kdCl_n {r : Int → Int} {k i : Int} (h : i < 32 * k ∨ 32 * k + 4 ≤ i) : kdCl r k i = r i := kdSt_n h
theorem kdCl_sh {r : Int → Int} {k : Int} : (fun j => kdCl r k (32 * k + j)) = kdSt (fun j => r (32 * k + j)) 0 (kdSum r k) := by
  have h := kdSt_sh (f := r) (c := 32 * k) (a := 0) (v := kdSum r k)
  rw [Int.add_zero] at h
  exact h
section
variable {kd : Nat → Nat} {an : Nat → Nat} {ai : Nat → Int → Int} {al : Nat → Int → Int} {ar : Nat → Int → Option Nat} {mX42_disk : Nat → Option Nat} {mX42_count : Nat → Int} {mX42_runs : Nat → Int} {mX42_isFull : Nat → Int} {mX42_places : Nat → Option Nat} {mX42_laid : Nat → Option Nat} {mX42_changed : Nat → Int} {mX42_waiting : Nat → Option Nat} {mX42_states : Nat → Option Nat} {mX42_kept : Nat → Option Nat} {mX43_number : Nat → Int} {mX43_sectors : Nat → Int} {mX63_bytes : Nat → Option Nat} {mX64_to : Nat → Int} {mX64_sector : Nat → Option Nat} {mJ1_modCount : Nat → Int} {mJ2_elementData : Nat → Option Nat} {mJ2_size : Nat → Int} {mJ5_elements : Nat → Option Nat} {mJ5_head : Nat → Int} {mJ5_tail : Nat → Int} {mJ22_cursor : Nat → Int} {mJ22_remaining : Nat → Int} {mJ22_lastRet : Nat → Int} {mJ22_this_0 : Nat → Option Nat} {mJ23_cursor : Nat → Int} {mJ23_lastRet : Nat → Int} {mJ23_expectedModCount : Nat → Int} {mJ23_this_0 : Nat → Option Nat} {sa : Nat → Nat} {d e q x l dq pq lq d1 e1 d2 e2 e3 s b : Nat} {cap hd n i c1 h1 c2 h2 : Int} {el f ls lb ws wb w1 w2 w3 w : Int → Nat} {MC MS kc ks' : Nat} {A B : Prop} {dk op lt ld pl tg by' nu se ku ks : Int → Int} {fi be ol nw kn k p v ru fu ch lo : Int} {fn : Int → Int} {P : Nat → Prop} {kd' an' : Nat → Nat} {ai' : Nat → Int → Int} {ar' : Nat → Int → Option Nat} {mB' mS' mE' : Nat → Option Nat} {mO' mN' mU' mH' mT' : Nat → Int} {S : KS} {Tt : kdQt} {a to fr nr : Int} {src op' ld' : Int → Int} {e' : Nat}
/-- the laid sectors wait, with their number -/
theorem CKD_c47 {K : (Nat → Nat) → (Nat → Nat) → (Nat → Int → Int) → (Nat → Int → Option Nat) → (Nat → Int) → (Nat → Option Nat) → (Nat → Option Nat) → (Nat → Int) → (Nat → Int) → Nat → Nat → Prop} {BB : Nat} (hB : Tt.2.2.2.2.2 ≤ BB) (hB2 : BB ≤ 1100)
  (hM : kc + 92 ≤ MC ∧ ks' + 46 * (2 * BB + 104) ≤ MS)
  (hK : ∀ (kd an : Nat → Nat) (ai : Nat → Int → Int) (ar : Nat → Int → Option Nat) (mX64_to : Nat → Int) (mX64_sector mJ5_elements : Nat → Option Nat) (mJ5_head mJ5_tail : Nat → Int) (kc2 ks2 : Nat), kdOK kd an ai al ar mX42_disk mX42_count mX42_runs mX42_isFull mX42_places mX42_laid mX42_changed mX42_waiting mX42_states mX42_kept mX43_number mX43_sectors mX63_bytes mX64_to mX64_sector mJ1_modCount mJ2_elementData mJ2_size mJ5_elements mJ5_head mJ5_tail mJ22_cursor mJ22_remaining mJ22_lastRet mJ22_this_0 mJ23_cursor mJ23_lastRet mJ23_expectedModCount mJ23_this_0 sa x (kdS6 S (kdCs nr Tt 46)) → kc2 ≤ kc + 92 → ks2 ≤ ks' + 46 * (2 * BB + 104) → K kd an ai ar mX64_to mX64_sector mJ5_elements mJ5_head mJ5_tail kc2 ks2) :
  ∀ (j m : Nat) (kd an : Nat → Nat) (ai : Nat → Int → Int) (ar : Nat → Int → Option Nat) (mX64_to : Nat → Int) (mX64_sector mJ5_elements : Nat → Option Nat) (mJ5_head mJ5_tail : Nat → Int) (kc2 ks2 : Nat), m + j = 46 → kdOK kd an ai al ar mX42_disk mX42_count mX42_runs mX42_isFull mX42_places mX42_laid mX42_changed mX42_waiting mX42_states mX42_kept mX43_number mX43_sectors mX63_bytes mX64_to mX64_sector mJ1_modCount mJ2_elementData mJ2_size mJ5_elements mJ5_head mJ5_tail mJ22_cursor mJ22_remaining mJ22_lastRet mJ22_this_0 mJ23_cursor mJ23_lastRet mJ23_expectedModCount mJ23_this_0 sa x (kdS6 S (kdCs nr Tt m)) → kc2 ≤ kc + 2 * m → ks2 ≤ ks' + m * (2 * BB + 104) → wKD_X42_commit_47 MC MS K x nr mX42_count mX42_laid mX42_waiting mX63_bytes sa (j + 1) (2 + (m : Int)) kd an ai ar mX64_to mX64_sector mJ5_elements mJ5_head mJ5_tail kc2 ks2 := fun j => by
  induction j with
  | zero =>
    intro m kd an ai ar mX64_to mX64_sector mJ5_elements mJ5_head mJ5_tail kc2 ks2 hm O b1 b2
    rw [wKD_X42_commit_47]
    have e : m = 46 := by omega
    subst e
    obtain ⟨Rg, Lt, dq, pq, lq, ls, lb, d1, e1, c1, h1, w1, ws, wb, d2, e2, c2, h2, w2, l, e3, w3, C1, C2, C3, C4, C5, C6, C7, D1, D2, Mo⟩ := O
    rw [C1.2.1.1]
    exact ⟨fun _ => hK kd an ai ar mX64_to mX64_sector mJ5_elements mJ5_head mJ5_tail kc2 ks2 ⟨Rg, Lt, dq, pq, lq, ls, lb, d1, e1, c1, h1, w1, ws, wb, d2, e2, c2, h2, w2, l, e3, w3, C1, C2, C3, C4, C5, C6, C7, D1, D2, Mo⟩ (by omega) b2, fun w => absurd (by decide) w⟩
  | succ j ih =>
    intro m kd an ai ar mX64_to mX64_sector mJ5_elements mJ5_head mJ5_tail kc2 ks2 hm O b1 b2
    have O0 := O
    have bb := kdCs_be (S := Tt) (n := nr) m
    have eC : kdCs nr Tt (m + 1) = kdCk nr (2 + m) (kdCs nr Tt m) := rfl
    have bm : (m + 1) * (2 * BB + 104) = m * (2 * BB + 104) + (2 * BB + 104) := Nat.succ_mul _ _
    have bt : (m + 1) * (2 * BB + 104) ≤ 46 * (2 * BB + 104) := Nat.mul_le_mul_right _ (by omega)
    rw [wKD_X42_commit_47]
    obtain ⟨Rg, Lt, dq, pq, lq, ls, lb, d1, e1, c1, h1, w1, ws, wb, d2, e2, c2, h2, w2, l, e3, w3, C1, C2, C3, C4, C5, C6, C7, D1, D2, Mo⟩ := O
    rw [C1.2.1.1]
    generalize kdCs nr Tt m = T at O0 Rg Lt C1 C2 C3 C4 C5 C6 C7 D1 D2 Mo bb eC
    have hbe : T.2.2.2.2.2 ≤ BB + 46 := by omega
    have lq12 := C3.1.2.1
    refine ⟨fun w => by omega, fun _ => kOn_of C3.1.1 ⟨C3.1.2.1, by rw [C3.1.2.2]; omega, fun r er => ?_⟩⟩
    have e0 := C3.2.1 (2 + (m : Int)) (by omega) (by omega)
    refine ⟨fun rn => ⟨by omega, fun x3 ex3 => ?_⟩, fun y ry r24 er24 => ?_⟩
    · have lk : T.2.2.1 (2 + m) = 0 := Classical.byContradiction fun z => by
        rw [if_neg (show ¬ (kdS6 S T).ld (2 + m) = 0 from z)] at e0
        rw [er, e0] at rn; exact nomatch rn
      rw [kdCk_0 lk] at eC
      rw [← eC] at O0
      have I := ih (m + 1) kd an ai ar mX64_to mX64_sector mJ5_elements mJ5_head mJ5_tail kc2 ks2 (by omega) O0 (by omega) (by omega)
      rw [show (2 : Int) + ((m + 1 : Nat) : Int) = 2 + (m : Int) + 1 by omega] at I
      rw [ex3]; exact I
    have lk : ¬ T.2.2.1 (2 + m) = 0 := fun z => by
      rw [if_pos (show (kdS6 S T).ld (2 + m) = 0 from z)] at e0
      rw [er, e0] at ry; exact nomatch ry
    rw [if_neg (show ¬ (kdS6 S T).ld (2 + m) = 0 from lk)] at e0
    rw [kdCk_1 lk] at eC
    have S1 := C3.2.2 (2 + (m : Int)) (by omega) (by omega) lk
    obtain ⟨x1, x2, x3⟩ := C7.1.2 (2 + (m : Int)) (by omega) (by omega) lk
    generalize hs : ls (2 + (m : Int)) = s at e0 S1
    generalize hb : lb (2 + (m : Int)) = b at S1 x1 x2 x3
    have kb := S1.2.2.1
    have kpq := C2.1.2.1
    have ke1 := C4.2.1.1.2.2.1
    rw [er24, e0]
    refine kOn_some ⟨S1.1, by omega, CKD_setS S1 (by decide) (fun f1 S2 r29 er29 => ?_)⟩
    rw [er29]
    refine kOn_some ⟨S1.1, by omega, CKD_close S2 (by decide) (fun f2 S3 => ⟨by omega, fun q hq mO eO mS eS r41 er41 => ⟨by omega, ?_⟩⟩)⟩
    rw [va_up_up] at S3 ⊢
    rw [er41]
    unfold wpKD_X64_init wpKD_J7_init
    intro mO2 eO2 mS2 eS2
    rw [eO, va_up_up] at eO2
    rw [eS, va_up_up] at eS2
    have nq : ∀ r, ¬ kd r = 0 → ¬ r = q := fun r hr z => hr (by rw [z]; exact hq)
    have Kq : kdK4 kd an ai mX63_bytes (va_up kd q 4) an ai mX63_bytes := kdK4.it hq
    have nfb : T.2.2.2.2.2 - S.fi ≤ BB + 46 := by have := Rg.2.2.2.2.1; have : 0 ≤ S.fi := this.1; omega
    have D := C4.2.1.kp Kq
    refine kOn_of C4.1 ⟨D.1.1, 1, 2 * BB + 102, by omega, CKD_dadd ⟨by omega, ?_⟩ D ?_ (fun i i0 i1 => ?_) (Or.inr (va_up_self _ _ _)) (fun kd3 an3 ar3 E3 H3 T3 e' cap' hd' le D3 hE hA hJ _ => ⟨?_, fun ar4 ear4 => ⟨by omega, fun x4 ex4 => ?_⟩⟩)⟩
    · show 2 * (T.2.2.2.2.2 - S.fi) + 10 ≤ ((2 * BB + 102 : Nat) : Int); omega
    · show T.2.2.2.2.2 - S.fi ≤ 10000; omega
    · have k4 := (C4.2.2 i i0 i1).1.1
      rw [va_up_ne _ _ (nq _ (by omega)), k4]; exact Or.inr rfl
    · have := (le lq (by rw [va_up_ne _ _ (nq _ (by omega))]; omega)).2
      rw [this, C3.1.2.2]; omega
    have he : e' = e1 ∨ kd e' = 0 := by
      rcases hE with h | h
      · exact Or.inl h.1
      · refine Or.inr (Classical.byContradiction fun z => ?_)
        have := h.1
        rw [va_up_ne _ _ (nq _ z)] at this; exact z this
    have ne' : ¬ lq = e' := fun z => by
      rcases he with h | h
      · rw [← z] at h; rw [← h] at ke1; omega
      · rw [← z] at h; omega
    have lq1 : ¬ lq = e1 := fun z => by rw [← z] at ke1; omega
    have arl : ar3 lq = ar lq := hA lq ne' lq1
    have K : kdKx (fun r => r = b) (fun r => r = e1 ∨ r = lq) (fun r => r = d1) kd an ai ar mX63_bytes mX64_to mX64_sector mX43_number mX43_sectors mJ5_elements mJ5_head mJ5_tail kd3 an3 (va_up ai b f2) ar4 mX63_bytes mO2 mS2 mX43_number mX43_sectors E3 H3 T3 := fun r hr => by
      have n1 := nq r hr
      obtain ⟨l1, l2⟩ := le r (by rw [va_up_ne _ _ n1]; exact hr)
      rw [va_up_ne _ _ n1] at l1
      refine ⟨⟨l1, l2, rfl⟩, ⟨by rw [eO2]; exact va_up_ne _ _ n1, by rw [eS2]; exact va_up_ne _ _ n1⟩, ⟨rfl, rfl⟩, fun z => va_up_ne _ _ z, fun z => ?_, fun z => hJ r z⟩
      rw [ear4, va_up_ne _ _ (fun w => z (Or.inr w))]
      refine hA r (fun w => ?_) (fun w => z (Or.inl w))
      rcases he with h | h
      · exact z (Or.inl (w.trans h))
      · rw [← w] at h; exact hr h
    have oo : ∀ k', ¬ k' = 2 + (m : Int) → ∀ i, 0 ≤ i → i < 32 → T.2.1 (32 * k' + i) = kdCl (kdSt T.2.1 (32 * (2 + (m : Int)) + 16) nr) (2 + (m : Int)) (32 * k' + i) := fun k' nk i i0 i1 => by
      rw [kdCl_n (by omega), kdSt_n (by omega)]
    have efn : kdSt (kdSt (fun i => (kdS6 S T).op (32 * (2 + (m : Int)) + i)) 16 nr) 0 (kdSm (kdSt (fun i => (kdS6 S T).op (32 * (2 + (m : Int)) + i)) 16 nr) 28) = fun j => kdCl (kdSt T.2.1 (32 * (2 + (m : Int)) + 16) nr) (2 + (m : Int)) (32 * (2 + (m : Int)) + j) := by
      rw [kdCl_sh]
      unfold kdSum
      rw [kdSt_sh]
      rfl
    rw [efn] at S3
    have O4 := kd_queue (al := al) (mJ22_cursor := mJ22_cursor) (mJ22_remaining := mJ22_remaining) (mJ22_lastRet := mJ22_lastRet) (mJ22_this_0 := mJ22_this_0) (mJ23_cursor := mJ23_cursor) (mJ23_lastRet := mJ23_lastRet) (mJ23_expectedModCount := mJ23_expectedModCount) (mJ23_this_0 := mJ23_this_0) (to := 2 + (m : Int)) (S := kdS6 S T) (ld' := updI T.2.2.1 (2 + (m : Int)) 0) (op' := kdCl (kdSt T.2.1 (32 * (2 + (m : Int)) + 16) nr) (2 + (m : Int))) (src := kdCl (kdSt T.2.1 (32 * (2 + (m : Int)) + 16) nr) (2 + (m : Int))) (fr := 2 + (m : Int)) (q := q) (s := s) Rg Lt C1 C2 C3 C4 C5 C6 C7 D1 D2 Mo K (fun r z => z) (fun r z => z) (fun r z => z) ⟨x1, fun z => by rw [z] at kb; omega, fun i i0 i1 z => x3 i i0 i1 z.symm⟩ (fun k' k0 k1 kl => ?_) (fun k' k0 k1 => ?_) (D3.ar' (by rw [ear4]; exact va_up_ne _ _ (fun z => ne' z.symm))) he ⟨?_, by rw [eO2]; exact va_up_self _ _ _, by rw [eS2]; exact va_up_self _ _ _⟩ ((S3.le Kq.le).le le) (by omega) (by show T.2.2.2.2.2 < 1200; omega)
    · have I := ih (m + 1) kd3 an3 (va_up ai b f2) ar4 mO2 mS2 E3 H3 T3 (kc2 + 1 + 1) (ks2 + 2 + (2 * BB + 102)) (by omega) (by rw [eC]; exact O4) (by omega) (by omega)
      rw [show (2 : Int) + ((m + 1 : Nat) : Int) = 2 + (m : Int) + 1 by omega] at I
      rw [ex4]; exact I
    · have nk : ¬ k' = 2 + (m : Int) := fun z => kl (by rw [z, updI_s])
      rw [updI_n nk] at kl
      refine ⟨kl, fun z => x2 k' k0 k1 kl (fun w => nk w.symm) z.symm, fun i i0 i1 _ => oo k' nk i i0 i1⟩
    · rw [ear4, va_up_self, arl]
      exact kd_g3 C3.2.1 k' k0 k1
    · obtain ⟨l1, _⟩ := le q (by rw [va_up_self]; decide)
      rw [l1, va_up_self]
end

/-! KnowDisk, the component: commit, its head and state -/
theorem kdCs_ld {n : Int} {S : kdQt} : ∀ m : Nat, ∀ k : Int, 2 ≤ k → k < 2 + m → (kdCs n S m).2.2.1 k = 0
  | 0, k, k0, k1 => by omega
  | m + 1, k, k0, k1 => by
    have ih := kdCs_ld (n := n) (S := S) m
    rw [kdCs]
    by_cases w : (kdCs n S m).2.2.1 (2 + m) = 0
    · rw [kdCk_0 w]
      by_cases z : k = 2 + (m : Int)
      · rw [z]; exact w
      · exact ih k k0 (by omega)
    · rw [kdCk_1 w]
      dsimp only
      by_cases z : k = 2 + (m : Int)
      · rw [z, updI_s]
      · rw [updI_n z]; exact ih k k0 (by omega)
theorem kdHs_b {lt pl : Int → Int} : ∀ m : Nat, m ≤ 46 → zL (kdHs lt pl m).1 ∧ ∀ k : Nat, k < 64 → (zb (kdHs lt pl m).1 k = 1 ↔ kdOp pl k ∧ 2 ≤ (k : Int) ∧ (k : Int) < 2 + m)
  | 0, _ => ⟨by show zL 0; decide, fun k _ => ⟨fun w => by rw [show (kdHs lt pl 0).1 = 0 from rfl, zb_zero] at w; exact absurd w (by decide), fun w => by omega⟩⟩
  | m + 1, hm => by
    obtain ⟨a, b⟩ := kdHs_b (lt := lt) (pl := pl) m (by omega)
    have eC : kdHs lt pl (m + 1) = pif (kdOp pl (2 + m)) (zLor (kdHs lt pl m).1 (zLshl 1 (2 + m)), zxor (kdHs lt pl m).2 (kdNo lt (32 * (2 + m)))) (kdHs lt pl m) := rfl
    by_cases y : kdOp pl (2 + (m : Int))
    · rw [pif_t y] at eC
      rw [eC]
      refine ⟨zr_or64 _ _, fun k hk => ?_⟩
      show zb (zLor (kdHs lt pl m).1 (zLshl 1 (2 + (m : Int)))) k = 1 ↔ _
      rw [kd_or1 a (by omega) hk, b k hk]
      refine ⟨fun z => ?_, fun z => ?_⟩
      · rcases z with z | z
        · exact ⟨z.1, by omega⟩
        · rw [z]; exact ⟨y, by omega⟩
      · by_cases q : (k : Int) = 2 + (m : Int)
        · exact Or.inr q
        · exact Or.inl ⟨z.1, by omega⟩
    · rw [pif_f y] at eC
      rw [eC]
      refine ⟨a, fun k hk => ?_⟩
      rw [b k hk]
      refine ⟨fun z => ⟨z.1, by omega⟩, fun z => ⟨z.1, z.2.1, ?_⟩⟩
      by_cases q : (k : Int) = 2 + (m : Int)
      · rw [q] at z; exact absurd z.1 y
      · omega
theorem kdCl0 {F : Int → Int} : kdCl F 0 = kdSt F 0 (kdSm F 28) := by
  unfold kdCl kdSum
  simp only [Int.mul_zero, Int.zero_add]
theorem kdFl0 : kdFl (fun _ => 0) 32 0 = fun _ => 0 := funext fun i => by unfold kdFl; split <;> rfl
noncomputable def kdCo (S : KS) (n : Int) : Int × KS :=
  if S.ru = 0 ∨ S.ch = 0 then (-3, S) else if n ≤ S.nu S.nw ∨ 1000000 < n then (-2, S) else
  ((kdCs n (S.lt, S.op, S.ld, S.tg, S.by', S.be) 46).2.2.2.2.2 + 1 - S.be,
   (KS.mk ((kdS6 S (kdCs n (S.lt, S.op, S.ld, S.tg, S.by', S.be) 46)).dk) (kdCn (kdCs n (S.lt, S.op, S.ld, S.tg, S.by', S.be) 46).1 (n % 2) (kdHr (fun _ => 0) (kdHs (kdCs n (S.lt, S.op, S.ld, S.tg, S.by', S.be) 46).1 S.pl 46).1 n (kdHs (kdCs n (S.lt, S.op, S.ld, S.tg, S.by', S.be) 46).1 S.pl 46).2) 0 32) ((kdS6 S (kdCs n (S.lt, S.op, S.ld, S.tg, S.by', S.be) 46)).op) ((kdS6 S (kdCs n (S.lt, S.op, S.ld, S.tg, S.by', S.be) 46)).ld) ((kdS6 S (kdCs n (S.lt, S.op, S.ld, S.tg, S.by', S.be) 46)).pl) (updI S.nu (S.nw + 1) n) (updI S.se (S.nw + 1) (kdHs (kdCs n (S.lt, S.op, S.ld, S.tg, S.by', S.be) 46).1 S.pl 46).1) ((kdS6 S (kdCs n (S.lt, S.op, S.ld, S.tg, S.by', S.be) 46)).ku) ((kdS6 S (kdCs n (S.lt, S.op, S.ld, S.tg, S.by', S.be) 46)).ks) (updI (kdCs n (S.lt, S.op, S.ld, S.tg, S.by', S.be) 46).2.2.2.1 (kdCs n (S.lt, S.op, S.ld, S.tg, S.by', S.be) 46).2.2.2.2.2 (n % 2)) (kdCn (kdCs n (S.lt, S.op, S.ld, S.tg, S.by', S.be) 46).2.2.2.2.1 (kdCs n (S.lt, S.op, S.ld, S.tg, S.by', S.be) 46).2.2.2.2.2 (kdHr (fun _ => 0) (kdHs (kdCs n (S.lt, S.op, S.ld, S.tg, S.by', S.be) 46).1 S.pl 46).1 n (kdHs (kdCs n (S.lt, S.op, S.ld, S.tg, S.by', S.be) 46).1 S.pl 46).2) 0 32) ((kdS6 S (kdCs n (S.lt, S.op, S.ld, S.tg, S.by', S.be) 46)).ru) ((kdS6 S (kdCs n (S.lt, S.op, S.ld, S.tg, S.by', S.be) 46)).fu) (0) ((kdS6 S (kdCs n (S.lt, S.op, S.ld, S.tg, S.by', S.be) 46)).fi) ((kdCs n (S.lt, S.op, S.ld, S.tg, S.by', S.be) 46).2.2.2.2.2 + 1) ((kdS6 S (kdCs n (S.lt, S.op, S.ld, S.tg, S.by', S.be) 46)).ol) (S.nw + 1) ((kdS6 S (kdCs n (S.lt, S.op, S.ld, S.tg, S.by', S.be) 46)).kn) ((kdS6 S (kdCs n (S.lt, S.op, S.ld, S.tg, S.by', S.be) 46)).mo)))
section
variable {kd : Nat → Nat} {an : Nat → Nat} {ai : Nat → Int → Int} {al : Nat → Int → Int} {ar : Nat → Int → Option Nat} {mX42_disk : Nat → Option Nat} {mX42_count : Nat → Int} {mX42_runs : Nat → Int} {mX42_isFull : Nat → Int} {mX42_places : Nat → Option Nat} {mX42_laid : Nat → Option Nat} {mX42_changed : Nat → Int} {mX42_waiting : Nat → Option Nat} {mX42_states : Nat → Option Nat} {mX42_kept : Nat → Option Nat} {mX43_number : Nat → Int} {mX43_sectors : Nat → Int} {mX63_bytes : Nat → Option Nat} {mX64_to : Nat → Int} {mX64_sector : Nat → Option Nat} {mJ1_modCount : Nat → Int} {mJ2_elementData : Nat → Option Nat} {mJ2_size : Nat → Int} {mJ5_elements : Nat → Option Nat} {mJ5_head : Nat → Int} {mJ5_tail : Nat → Int} {mJ22_cursor : Nat → Int} {mJ22_remaining : Nat → Int} {mJ22_lastRet : Nat → Int} {mJ22_this_0 : Nat → Option Nat} {mJ23_cursor : Nat → Int} {mJ23_lastRet : Nat → Int} {mJ23_expectedModCount : Nat → Int} {mJ23_this_0 : Nat → Option Nat} {sa : Nat → Nat} {d e q x l dq pq lq d1 e1 d2 e2 e3 s b : Nat} {cap hd n i c1 h1 c2 h2 : Int} {el f ls lb ws wb w1 w2 w3 w : Int → Nat} {MC MS kc ks' : Nat} {A B : Prop} {dk op lt ld pl tg by' nu se ku ks : Int → Int} {fi be ol nw kn k p v ru fu ch lo : Int} {fn : Int → Int} {P : Nat → Prop} {kd' an' : Nat → Nat} {ai' : Nat → Int → Int} {ar' : Nat → Int → Option Nat} {mB' mS' mE' : Nat → Option Nat} {mO' mN' mU' mH' mT' : Nat → Int} {S : KS} {a to fr nr : Int} {src op' ld' : Int → Int} {e' : Nat} {Q Qr Qd : Nat → Prop}
theorem kdSe.st (S : kdSe kd an ai mX63_bytes lo s b fn) (hv : -128 ≤ v ∧ v < 128) : kdSe kd an (va_up ai b (updI (ai b) a v)) mX63_bytes lo s b (updI fn a (v % 256)) := by
  refine ⟨S.1, S.2.1, S.2.2.1, S.2.2.2.1, fun i i0 i1 => ?_⟩
  rw [va_up_self]
  by_cases z : i = a
  · rw [z, updI_s, updI_s]; exact ⟨hv, fun _ => rfl⟩
  · rw [updI_n z, updI_n z]; exact S.2.2.2.2 i i0 i1
theorem CKD_newS {post : (Nat → Nat) → (Nat → Nat) → (Nat → Int → Int) → (Nat → Option Nat) → Prop} (hs : kd s = 0) (hM : 1 ≤ MC ∧ 32 ≤ MS) (H : ∀ b kd' an' ai' mB', kd b = 0 → kdK4 kd an ai mX63_bytes kd' an' ai' mB' → kdSe kd' an' ai' mB' 0 s b (fun _ => 0) → post kd' an' ai' mB') : wpKD_X63_init MC MS post (va_up kd s 3) an ai (va_up mX63_bytes s none) s := by
  unfold wpKD_X63_init
  refine ⟨by omega, fun b hb a' ea m2 em2 => ⟨by omega, by omega, ?_⟩⟩
  have nb : ¬ b = s := fun e => by rw [e, va_up_self] at hb; exact absurd hb (by decide)
  have hb0 : kd b = 0 := by rw [va_up_ne _ _ nb] at hb; exact hb
  rw [va_up_up] at em2
  rw [em2, ea]
  refine H b _ _ _ _ hb0 (fun r hr => ?_) ⟨by rw [va_up_ne _ _ (fun e => nb e.symm), va_up_self], va_up_self _ _ _, va_up_self _ _ _, va_up_self _ _ _, fun i i0 i1 => ?_⟩
  · have n1 : ¬ r = s := fun e => hr (by rw [e]; exact hs)
    have n2 : ¬ r = b := fun e => hr (by rw [e]; exact hb0)
    exact ⟨by rw [va_up_ne _ _ n2, va_up_ne _ _ n1], va_up_ne _ _ n2, va_up_ne _ _ n2, va_up_ne _ _ n1⟩
  · rw [va_up_self]
    exact ⟨by show -128 ≤ (0 : Int) ∧ (0 : Int) < 128; decide, fun _ => rfl⟩
/-- what a step changes that lets one more wait -/
theorem kd_kq {an3 kd3 : Nat → Nat} {ar3 ar4 : Nat → Int → Option Nat} {ai3 : Nat → Int → Int} {E3 mS2 : Nat → Option Nat} {H3 T3 mO2 : Nat → Int} {C : Prop} (hq : kd q = 0) (le : kLe (va_up kd q 4) an kd3 an3) (hE : (e' = e1 ∧ kd3 = va_up kd q 4 ∧ an3 = an) ∨ (va_up kd q 4 e' = 0 ∧ C)) (hA : ∀ a, ¬ a = e' → ¬ a = e1 → ar3 a = ar a) (hJ : ∀ a, ¬ a = d1 → E3 a = mJ5_elements a ∧ H3 a = mJ5_head a ∧ T3 a = mJ5_tail a) (hai : ∀ r, ¬ r = b → ai3 r = ai r) (har : ∀ r, ¬ r = lq → ar4 r = ar3 r) (eO : mO2 = va_up mX64_to q to) {so : Option Nat} (eS : mS2 = va_up mX64_sector q so) : kdKx (fun r => r = b) (fun r => r = e1 ∨ r = lq) (fun r => r = d1) kd an ai ar mX63_bytes mX64_to mX64_sector mX43_number mX43_sectors mJ5_elements mJ5_head mJ5_tail kd3 an3 ai3 ar4 mX63_bytes mO2 mS2 mX43_number mX43_sectors E3 H3 T3 ∧ (e' = e1 ∨ kd e' = 0) := by
  have nq : ∀ r, ¬ kd r = 0 → ¬ r = q := fun r hr z => hr (by rw [z]; exact hq)
  have he : e' = e1 ∨ kd e' = 0 := by
    rcases hE with h | h
    · exact Or.inl h.1
    · refine Or.inr (Classical.byContradiction fun z => ?_)
      have := h.1
      rw [va_up_ne _ _ (nq _ z)] at this; exact z this
  refine ⟨fun r hr => ?_, he⟩
  have n1 := nq r hr
  obtain ⟨l1, l2⟩ := le r (by rw [va_up_ne _ _ n1]; exact hr)
  rw [va_up_ne _ _ n1] at l1
  refine ⟨⟨l1, l2, rfl⟩, ⟨by rw [eO]; exact va_up_ne _ _ n1, by rw [eS]; exact va_up_ne _ _ n1⟩, ⟨rfl, rfl⟩, fun z => hai r z, fun z => ?_, fun z => hJ r z⟩
  rw [har r (fun w => z (Or.inr w))]
  refine hA r (fun w => ?_) (fun w => z (Or.inl w))
  rcases he with h | h
  · exact z (Or.inl (w.trans h))
  · rw [← w] at h; exact hr h
theorem kd_ks {an3 kd3 : Nat → Nat} {ar3 : Nat → Int → Option Nat} {E3 : Nat → Option Nat} {H3 T3 mN2 mU2 : Nat → Int} {C : Prop} {u : Int} (hq : kd q = 0) (le : kLe (va_up kd q 2) an kd3 an3) (hE : (e' = e2 ∧ kd3 = va_up kd q 2 ∧ an3 = an) ∨ (va_up kd q 2 e' = 0 ∧ C)) (hA : ∀ a, ¬ a = e' → ¬ a = e2 → ar3 a = ar a) (hJ : ∀ a, ¬ a = d2 → E3 a = mJ5_elements a ∧ H3 a = mJ5_head a ∧ T3 a = mJ5_tail a) (eO : mN2 = va_up mX43_number q to) (eS : mU2 = va_up mX43_sectors q u) : kdKx (fun _ => False) (fun r => r = e2) (fun r => r = d2) kd an ai ar mX63_bytes mX64_to mX64_sector mX43_number mX43_sectors mJ5_elements mJ5_head mJ5_tail kd3 an3 ai ar3 mX63_bytes mX64_to mX64_sector mN2 mU2 E3 H3 T3 ∧ (e' = e2 ∨ kd e' = 0) := by
  have nq : ∀ r, ¬ kd r = 0 → ¬ r = q := fun r hr z => hr (by rw [z]; exact hq)
  have he : e' = e2 ∨ kd e' = 0 := by
    rcases hE with h | h
    · exact Or.inl h.1
    · refine Or.inr (Classical.byContradiction fun z => ?_)
      have := h.1
      rw [va_up_ne _ _ (nq _ z)] at this; exact z this
  refine ⟨fun r hr => ?_, he⟩
  have n1 := nq r hr
  obtain ⟨l1, l2⟩ := le r (by rw [va_up_ne _ _ n1]; exact hr)
  rw [va_up_ne _ _ n1] at l1
  refine ⟨⟨l1, l2, rfl⟩, ⟨rfl, rfl⟩, ⟨by rw [eO]; exact va_up_ne _ _ n1, by rw [eS]; exact va_up_ne _ _ n1⟩, fun _ => rfl, fun z => ?_, fun z => hJ r z⟩
  refine hA r (fun w => ?_) (fun w => z w)
  rcases he with h | h
  · exact z (w.trans h)
  · rw [← w] at h; exact hr h
/-- one more state -/
theorem kd_stAdd {u : Int} (Rg : kdRg S.pl S.tg S.fi S.be S.se S.ol S.nw S.ks S.kn) (Lt : kdLt S.lt S.dk S.tg S.by' S.fi S.be) (C1 : kdC1 kd an ai mX42_disk mX42_count mX42_runs mX42_isFull mX42_changed x dq S.dk S.ru S.fu S.ch) (C2 : kdC2 kd an ai mX42_places x pq S.pl) (C3 : kdC3 kd an ai ar mX42_laid mX63_bytes x lq ls lb S.ld S.op) (C4 : kdC4 kd an ai ar mX42_waiting mX64_to mX64_sector mX63_bytes mJ5_elements mJ5_head mJ5_tail x d1 e1 c1 h1 w1 ws wb S.fi S.be S.tg S.by') (C5 : kdC5 kd an ar mX42_states mX43_number mX43_sectors mJ5_elements mJ5_head mJ5_tail x d2 e2 c2 h2 w2 S.ol S.nw S.nu S.se) (C6 : kdC6 kd an ar sa mX42_kept mX43_number mX43_sectors mJ2_elementData mJ2_size mJ1_modCount x l e3 w3 S.kn S.ku S.ks) (C7 : kdC7 dq d1 e1 d2 e2 lb wb S.ld (S.be - S.fi)) (D1 : kdDj kd sa e3 e1 S.kn) (D2 : kdDj kd sa e3 e2 S.kn) (Mo : mJ1_modCount l ≤ S.mo ∧ S.mo ≤ 90000) (K : kdKx Q Qr Qd kd an ai ar mX63_bytes mX64_to mX64_sector mX43_number mX43_sectors mJ5_elements mJ5_head mJ5_tail kd' an' ai' ar' mB' mO' mS' mN' mU' mE' mH' mT') (hQ : ∀ r, ¬ Q r) (hR : ∀ r, Qr r → r = e2) (hD : ∀ r, Qd r → r = d2) (D' : dqD kd' an' ar' mE' mH' mT' d2 e' cap hd (S.nw - S.ol + 1 + 1) (updI w2 (S.nw - S.ol + 1) q)) (he : e' = e2 ∨ kd e' = 0) (hq : kd' q = 2 ∧ mN' q = n ∧ mU' q = u) (hz : zL u) (hn : S.nw < 1199) : kdOK (kd') (an') (ai') al (ar') mX42_disk mX42_count mX42_runs mX42_isFull mX42_places mX42_laid (va_up mX42_changed x 0) mX42_waiting mX42_states mX42_kept (mN') (mU') (mB') (mO') (mS') mJ1_modCount mJ2_elementData mJ2_size (mE') (mH') (mT') mJ22_cursor mJ22_remaining mJ22_lastRet mJ22_this_0 mJ23_cursor mJ23_lastRet mJ23_expectedModCount mJ23_this_0 sa x (KS.mk (S.dk) (S.lt) (S.op) (S.ld) (S.pl) (updI S.nu (S.nw + 1) n) (updI S.se (S.nw + 1) u) (S.ku) (S.ks) (S.tg) (S.by') (S.ru) (S.fu) (0) (S.fi) (S.be) (S.ol) (S.nw + 1) (S.kn) (S.mo)) := by
  obtain ⟨r1, r2, r3, r4, r5, r6, r7⟩ := Rg
  have klq := C3.1.2.1
  have ke1 := C4.2.1.1.2.2.1
  have ke2 := C5.2.1.1.2.2.1
  refine ⟨⟨r1, r2, fun s' s0 s1 => ?_, r4, r5, by dsimp only [KS.mk_dk, KS.mk_lt, KS.mk_op, KS.mk_ld, KS.mk_pl, KS.mk_nu, KS.mk_se, KS.mk_ku, KS.mk_ks, KS.mk_tg, KS.mk_by, KS.mk_ru, KS.mk_fu, KS.mk_ch, KS.mk_fi, KS.mk_be, KS.mk_ol, KS.mk_nw, KS.mk_kn, KS.mk_mo]; omega, r7⟩, Lt, dq, pq, lq, ls, lb, d1, e1, c1, h1, w1, ws, wb, d2, e', cap, hd, updI w2 (S.nw - S.ol + 1) q, l, e3, w3, (C1.kx K (hQ _)).g, C2.kx K (hQ _), C3.kx K (fun z => ?_) (fun _ _ _ _ => hQ _), C4.kx K (fun z => ?_) (fun z => ?_) (fun _ _ _ => hQ _), ⟨C5.1, ?_, fun i' i0 i1 => ?_⟩, C6.kx K (fun n0 z => ?_), ⟨⟨⟨C7.1.1.1, ?_⟩, C7.1.2⟩, C7.2⟩, D1.le K.le C6.2.1.own ke1, ⟨fun n0 => ?_, ?_⟩, Mo⟩
  · show zL (updI S.se (S.nw + 1) u s')
    by_cases z : s' = S.nw + 1
    · rw [z, updI_s]; exact hz
    · rw [updI_n z]
      have : s' ≤ S.nw + 1 := s1
      exact r3 s' s0 (by omega)
  · have := hR _ z
    rw [this] at klq; omega
  · exact C7.1.1.2 (hR _ z)
  · exact C7.1.1.1 (hD _ z)
  · show dqD kd' an' ar' mE' mH' mT' d2 e' cap hd (S.nw + 1 - S.ol + 1) _
    rw [show S.nw + 1 - S.ol + 1 = S.nw - S.ol + 1 + 1 by omega]; exact D'
  · have i1' : i' ≤ S.nw + 1 - S.ol := i1
    dsimp only [KS.mk_dk, KS.mk_lt, KS.mk_op, KS.mk_ld, KS.mk_pl, KS.mk_nu, KS.mk_se, KS.mk_ku, KS.mk_ks, KS.mk_tg, KS.mk_by, KS.mk_ru, KS.mk_fu, KS.mk_ch, KS.mk_fi, KS.mk_be, KS.mk_ol, KS.mk_nw, KS.mk_kn, KS.mk_mo]
    by_cases z : i' = S.nw - S.ol + 1
    · rw [z, updI_s, show S.ol + (S.nw - S.ol + 1) = S.nw + 1 by omega, updI_s, updI_s]
      exact hq
    · obtain ⟨u1, u2, u3⟩ := C5.2.2 i' i0 (by omega)
      obtain ⟨⟨y1, _⟩, _, ⟨y2, y3⟩, _⟩ := K (w2 i') (by omega)
      rw [updI_n z, updI_n (by omega), updI_n (by omega)]
      exact ⟨y1.trans u1, y2.trans u2, y3.trans u3⟩
  · exact D2.1 n0 (hR _ z)
  · rcases he with z | z
    · rw [z]; exact C7.1.1.2
    · intro z2; rw [← z2] at z; omega
  · have k3 := (C6.2.1.at (Int.le_refl 0) n0).1
    rcases he with z | z
    · rw [z]; exact D2.1 n0
    · intro z2; rw [z2] at k3; omega
  · rcases he with z | z
    · rw [z]; exact D2.2.le (by decide) K.le C6.2.1.own (Or.inl ke2)
    · exact (D2.2.symm.up (by decide) K.le C6.2.1.own (Or.inr z)).symm
theorem CKD_c134 {r : Int} {K : Int → (Nat → Nat) → (Nat → Nat) → (Nat → Int → Int) → (Nat → Option Nat) → (Nat → Int) → (Nat → Int) → (Nat → Int) → (Nat → Option Nat) → (Nat → Int) → (Nat → Int) → Nat → Nat → Prop} (hM : kc + 138 ≤ MC ∧ ks' + 46 * 37 ≤ MS) (hl : ∀ k, 2 ≤ k → k < 48 → S.ld k = 0) (hr : ∀ k : Nat, k < 64 → (zb r k = 1 ↔ kdOp S.pl k))
  (hK : ∀ (kd an : Nat → Nat) (ai : Nat → Int → Int) (mX63_bytes : Nat → Option Nat) (mJ22_cursor mJ22_remaining mJ22_lastRet : Nat → Int) (mJ22_this_0 : Nat → Option Nat) (mJ23_cursor mJ23_lastRet : Nat → Int) (kc2 ks2 : Nat), kdOK kd an ai al ar mX42_disk mX42_count mX42_runs mX42_isFull mX42_places mX42_laid mX42_changed mX42_waiting mX42_states mX42_kept mX43_number mX43_sectors mX63_bytes mX64_to mX64_sector mJ1_modCount mJ2_elementData mJ2_size mJ5_elements mJ5_head mJ5_tail mJ22_cursor mJ22_remaining mJ22_lastRet mJ22_this_0 mJ23_cursor mJ23_lastRet mJ23_expectedModCount mJ23_this_0 sa x S → kc2 ≤ kc + 138 → ks2 ≤ ks' + 46 * 37 → K (kdHs S.lt S.pl 46).2 kd an ai mX63_bytes mJ22_cursor mJ22_remaining mJ22_lastRet mJ22_this_0 mJ23_cursor mJ23_lastRet kc2 ks2) :
  ∀ (j m : Nat) (kd an : Nat → Nat) (ai : Nat → Int → Int) (mX63_bytes : Nat → Option Nat) (mJ22_cursor mJ22_remaining mJ22_lastRet : Nat → Int) (mJ22_this_0 : Nat → Option Nat) (mJ23_cursor mJ23_lastRet : Nat → Int) (kc2 ks2 : Nat), m + j = 46 → kdOK kd an ai al ar mX42_disk mX42_count mX42_runs mX42_isFull mX42_places mX42_laid mX42_changed mX42_waiting mX42_states mX42_kept mX43_number mX43_sectors mX63_bytes mX64_to mX64_sector mJ1_modCount mJ2_elementData mJ2_size mJ5_elements mJ5_head mJ5_tail mJ22_cursor mJ22_remaining mJ22_lastRet mJ22_this_0 mJ23_cursor mJ23_lastRet mJ23_expectedModCount mJ23_this_0 sa x S → kc2 ≤ kc + 3 * m → ks2 ≤ ks' + 37 * m → wKD_X42_commit_134 MC MS K x r ar mX42_disk mX42_count mX42_laid mX42_waiting mX64_to mX64_sector mJ1_modCount mJ2_elementData mJ2_size mJ5_elements mJ5_head mJ5_tail mJ23_expectedModCount mJ23_this_0 (j + 1) (kdHs S.lt S.pl m).2 (2 + (m : Int)) kd an ai mX63_bytes mJ22_cursor mJ22_remaining mJ22_lastRet mJ22_this_0 mJ23_cursor mJ23_lastRet kc2 ks2 := fun j => by
  induction j with
  | zero =>
    intro m kd an ai mX63_bytes mJ22_cursor mJ22_remaining mJ22_lastRet mJ22_this_0 mJ23_cursor mJ23_lastRet kc2 ks2 hm O b1 b2
    rw [wKD_X42_commit_134]
    have e : m = 46 := by omega
    subst e
    have O0 := O
    obtain ⟨Rg, Lt, dq, pq, lq, ls, lb, d1, e1, c1, h1, w1, ws, wb, d2, e2, c2, h2, w2, l, e3, w3, C1, C2, C3, C4, C5, C6, C7, D1, D2, Mo⟩ := O
    rw [C1.2.1.1]
    exact ⟨fun _ => hK kd an ai mX63_bytes _ _ _ _ _ _ kc2 ks2 O0 (by omega) (by omega), fun w => absurd (by decide) w⟩
  | succ j ih =>
    intro m kd an ai mX63_bytes mJ22_cursor mJ22_remaining mJ22_lastRet mJ22_this_0 mJ23_cursor mJ23_lastRet kc2 ks2 hm O b1 b2
    have O0 := O
    obtain ⟨Rg, Lt, dq, pq, lq, ls, lb, d1, e1, c1, h1, w1, ws, wb, d2, e2, c2, h2, w2, l, e3, w3, C1, C2, C3, C4, C5, C6, C7, D1, D2, Mo⟩ := O
    rw [wKD_X42_commit_134, C1.2.1.1]
    dsimp only
    have eC : kdHs S.lt S.pl (m + 1) = pif (kdOp S.pl (2 + m)) (zLor (kdHs S.lt S.pl m).1 (zLshl 1 (2 + m)), zxor (kdHs S.lt S.pl m).2 (kdNo S.lt (32 * (2 + m)))) (kdHs S.lt S.pl m) := rfl
    have bt := hr (2 + m) (by omega)
    unfold zb at bt
    rw [show ((2 + m : Nat) : Int) = 2 + (m : Int) by omega] at bt
    rw [show (2 + (m : Int)).toNat = 2 + m by omega]
    refine ⟨fun w => by omega, fun _ => ⟨by omega, fun y => ?_, fun y => ⟨by omega, fun x6 ex => ?_⟩⟩⟩
    · rw [pif_t (bt.1 y)] at eC
      have lk := hl (2 + (m : Int)) (by omega) (by omega)
      refine ⟨3, 37, by omega, CKD_sector (by decide) (by omega) Lt C1 C3 C4 (fun s b kd' an' ai' mB' J1 J2 J3 J4 J5 J6 K1 S1 _ => ?_)⟩
      rw [if_pos lk] at S1
      refine kOn_some ⟨S1.1, by omega, CKD_number S1 (by decide) (by decide) (fun x5 ex5 => ⟨by omega, fun x6 ex6 => ?_⟩)⟩
      have e1 : kdNo (fun j => kdBo S.lt S.op S.ld (2 + (m : Int)) j) 0 = kdNo S.lt (32 * (2 + (m : Int))) := by
        have : (fun j => kdBo S.lt S.op S.ld (2 + (m : Int)) j) = fun j => S.lt (32 * (2 + (m : Int)) + j) := funext fun j => by unfold kdBo; rw [if_pos lk]
        rw [this, kdNo_sh, Int.add_zero]
      have I := ih (m + 1) kd' an' ai' mB' J1 J2 J3 J4 J5 J6 (kc2 + 3) (ks2 + 37) (by omega) (O0.kp K1) (by omega) (by omega)
      rw [show (2 : Int) + ((m + 1 : Nat) : Int) = 2 + (m : Int) + 1 by omega, eC] at I
      rw [ex5, ex6, e1]; exact I
    · rw [pif_f (fun z => y (bt.2 z))] at eC
      have I := ih (m + 1) kd an ai mX63_bytes mJ22_cursor mJ22_remaining mJ22_lastRet mJ22_this_0 mJ23_cursor mJ23_lastRet kc2 ks2 (by omega) O0 (by omega) (by omega)
      rw [show (2 : Int) + ((m + 1 : Nat) : Int) = 2 + (m : Int) + 1 by omega, eC] at I
      rw [ex]; exact I
theorem CKD_commit {post : Int → (Nat → Nat) → (Nat → Nat) → (Nat → Int → Int) → (Nat → Int → Option Nat) → (Nat → Int) → (Nat → Int) → (Nat → Int) → (Nat → Option Nat) → (Nat → Int) → (Nat → Option Nat) → (Nat → Option Nat) → (Nat → Int) → (Nat → Int) → (Nat → Int) → (Nat → Int) → (Nat → Int) → (Nat → Option Nat) → (Nat → Int) → (Nat → Int) → Prop} {BB : Nat} (hB : S.be ≤ BB) (hB2 : BB ≤ 1100) (hnw : S.nw < 1199) (hu : 0 ≤ S.nu S.nw) (hM : 240 ≤ MC ∧ 47 * (2 * BB + 104) + 4500 ≤ MS) (O : kdOK kd an ai al ar mX42_disk mX42_count mX42_runs mX42_isFull mX42_places mX42_laid mX42_changed mX42_waiting mX42_states mX42_kept mX43_number mX43_sectors mX63_bytes mX64_to mX64_sector mJ1_modCount mJ2_elementData mJ2_size mJ5_elements mJ5_head mJ5_tail mJ22_cursor mJ22_remaining mJ22_lastRet mJ22_this_0 mJ23_cursor mJ23_lastRet mJ23_expectedModCount mJ23_this_0 sa x S) (H : ∀ kd' an' ai' ar' G' mN' mU' mB' mO' mS' mE' mH' mT' J1 J2 J3 J4 J5 J6, kdOK (kd') (an') (ai') al (ar') mX42_disk mX42_count mX42_runs mX42_isFull mX42_places mX42_laid (G') mX42_waiting mX42_states mX42_kept (mN') (mU') (mB') (mO') (mS') mJ1_modCount mJ2_elementData mJ2_size (mE') (mH') (mT') J1 J2 J3 J4 J5 J6 mJ23_expectedModCount mJ23_this_0 sa x (kdCo S n).2 → post (kdCo S n).1 kd' an' ai' ar' G' mN' mU' mB' mO' mS' mE' mH' mT' J1 J2 J3 J4 J5 J6) : wpKD_X42_commit MC MS post kd an ai ar mX42_disk mX42_count mX42_runs mX42_places mX42_laid mX42_changed mX42_waiting mX42_states mX43_number mX43_sectors mX63_bytes mX64_to mX64_sector mJ1_modCount mJ2_elementData mJ2_size mJ5_elements mJ5_head mJ5_tail mJ22_cursor mJ22_remaining mJ22_lastRet mJ22_this_0 mJ23_cursor mJ23_lastRet mJ23_expectedModCount mJ23_this_0 sa x n := by
  have O0 := O
  obtain ⟨Rg, Lt, dq, pq, lq, ls, lb, d1, e1, c1, h1, w1, ws, wb, d2, e2, c2, h2, w2, l, e3, w3, C1, C2, C3, C4, C5, C6, C7, D1, D2, Mo⟩ := O
  have kr := Rg.2.2.2.2.2.1
  unfold kdCo at H
  unfold wpKD_X42_commit
  rw [C1.2.1.2.1, C1.2.1.2.2.2]
  have no3 : S.ru = 0 ∨ S.ch = 0 → post (-3) kd an ai ar mX42_changed mX43_number mX43_sectors mX63_bytes mX64_to mX64_sector mJ5_elements mJ5_head mJ5_tail mJ22_cursor mJ22_remaining mJ22_lastRet mJ22_this_0 mJ23_cursor mJ23_lastRet := fun w => by
    rw [if_pos w] at H
    exact H _ _ _ _ _ _ _ _ _ _ _ _ _ _ _ _ _ _ _ O0
  refine ⟨fun r0 => ⟨by omega, by omega, no3 (Or.inl r0)⟩, fun r0 => ⟨fun c0 => ⟨by omega, by omega, no3 (Or.inr c0)⟩, fun c0 => ⟨by omega, CKD_latest C5 (by omega) ?_⟩⟩⟩
  rw [if_neg (show ¬ (S.ru = 0 ∨ S.ch = 0) by omega)] at H
  obtain ⟨k2, en, _⟩ := C5.2.2 (S.nw - S.ol) (by omega) (by omega)
  rw [show S.ol + (S.nw - S.ol) = S.nw by omega] at en
  refine kOn_some ⟨k2, by omega, ?_⟩
  unfold wpKD_X43_number
  rw [en]
  have no2 : n ≤ S.nu S.nw ∨ 1000000 < n → post (-2) kd an ai ar mX42_changed mX43_number mX43_sectors mX63_bytes mX64_to mX64_sector mJ5_elements mJ5_head mJ5_tail mJ22_cursor mJ22_remaining mJ22_lastRet mJ22_this_0 mJ23_cursor mJ23_lastRet := fun w => by
    rw [if_pos w] at H
    exact H _ _ _ _ _ _ _ _ _ _ _ _ _ _ _ _ _ _ _ O0
  refine ⟨fun w => ⟨by omega, by omega, no2 (Or.inl w)⟩, fun w => ⟨fun w2 => ?_, fun w2 => ⟨by omega, by omega, no2 (Or.inr (by omega))⟩⟩⟩
  rw [if_neg (show ¬ (n ≤ S.nu S.nw ∨ 1000000 < n) by omega)] at H
  refine kOn_of C4.1 ⟨C4.2.1.1.1, by omega, CKD_dsize C4.2.1 ⟨47, CKD_c47 (S := S) (Tt := (S.lt, S.op, S.ld, S.tg, S.by', S.be)) (nr := n) (kc := 0) (ks' := 0) (BB := BB) hB hB2 (by omega) (fun kd1 an1 ai1 ar1 mO1 mS1 E1 H1 T1 kc1 ks1 O1 b1 b2 => ?_) 46 0 kd an ai ar mX64_to mX64_sector mJ5_elements mJ5_head mJ5_tail 0 0 rfl O0 (Nat.zero_le _) (Nat.zero_le _)⟩⟩
  have bb := kdCs_be (S := (S.lt, S.op, S.ld, S.tg, S.by', S.be)) (n := n) 46
  have hld := kdCs_ld (n := n) (S := (S.lt, S.op, S.ld, S.tg, S.by', S.be)) 46
  have bb2 : S.be ≤ (kdCs n (S.lt, S.op, S.ld, S.tg, S.by', S.be) 46).2.2.2.2.2 ∧ (kdCs n (S.lt, S.op, S.ld, S.tg, S.by', S.be) 46).2.2.2.2.2 ≤ S.be + ((46 : Nat) : Int) := bb
  generalize kdCs n (S.lt, S.op, S.ld, S.tg, S.by', S.be) 46 = T at H O1 hld bb2
  clear bb
  have OO1 := O1
  obtain ⟨Rg', Lt', dq', pq', lq', ls', lb', d1', e1', c1', h1', w1', ws', wb', d2', e2', c2', h2', w2', l', e3', w3', C1', C2', C3', C4', C5', C6', C7', D1', D2', Mo'⟩ := O1
  refine ⟨by omega, CKD_open C2' Rg'.1 (fun r hr hb => ⟨47, CKD_c134 (S := kdS6 S T) (r := r) (kc := kc1) (ks' := ks1) (by omega) (fun k k0 k1 => hld k k0 (by omega)) hb (fun kd2 an2 ai2 mB2 J1 J2 J3 J4 J5 J6 kc2 ks2 O2 b3 b4 => ?_) 46 0 _ _ _ _ _ _ _ _ _ _ kc1 ks1 rfl OO1 (Nat.le_add_right _ _) (Nat.le_add_right _ _)⟩)⟩
  have er : r = (kdHs T.1 S.pl 46).1 := by
    obtain ⟨z1, z2⟩ := kdHs_b (lt := T.1) (pl := S.pl) 46 (Nat.le_refl _)
    refine zb_ext64 hr z1 (fun k hk => (hb k hk).trans ((z2 k hk).trans ⟨fun z => z.1, fun z => ⟨z, ?_⟩⟩).symm)
    obtain ⟨p, hp, ep⟩ := z
    have := Rg'.1 p hp.1 hp.2
    have ep' : (kdS6 S T).pl p = k := ep
    omega
  show (kc2 + 1 ≤ MC ∧ ks2 + 1 ≤ MS) ∧ _
  have eall : (kdHs (kdS6 S T).lt (kdS6 S T).pl 46).2 = (kdHs T.1 S.pl 46).2 := rfl
  rw [eall]
  rw [← er] at H
  clear Rg' Lt' C1' C2' C3' C4' C5' C6' C7' D1' D2' Mo' OO1
  obtain ⟨Rg, Lt, dq, pq, lq, ls, lb, d1, e1, c1, h1, w1, ws, wb, d2, e2, c2, h2, w2, l, e3, w3, C1, C2, C3, C4, C5, C6, C7, D1, D2, Mo⟩ := O2
  refine ⟨by omega, fun s hs m em => ⟨1, 32, by omega, ?_⟩⟩
  rw [em]
  refine CKD_newS hs (by decide) (fun b kd3 an3 ai3 mB3 kb0 K1 S1 _ => ?_)
  have nb1 : ¬ b = dq := fun z => by have := C1.1.2.2.1; rw [← z] at this; omega
  have nb2 : ¬ b = pq := fun z => by have := C2.1.2.1; rw [← z] at this; omega
  have nb3 : ∀ i, 0 ≤ i → i < (kdS6 S T).be - (kdS6 S T).fi → ¬ wb i = b := fun i i0 i1 z => by have := (C4.2.2 i i0 i1).2.2.2.1; rw [z] at this; omega
  have nb4 : ∀ k, 0 ≤ k → k < 64 → ¬ (kdS6 S T).ld k = 0 → ¬ lb k = b := fun k k0 k1 kl z => by have := (C3.2.2 k k0 k1 kl).2.2.1; rw [z] at this; omega
  replace D1 := D1.le K1.le C6.2.1.own C4.2.1.1.2.2.1
  replace D2 := D2.le K1.le C6.2.1.own C5.2.1.1.2.2.1
  replace C1 := C1.kp K1
  replace C2 := C2.kp K1
  replace C3 := C3.kp K1
  replace C4 := C4.kp K1
  replace C5 := C5.kp K1
  replace C6 := C6.kp K1
  refine kOn_of S1.2.1 ⟨S1.2.2.1, by rw [S1.2.2.2.1]; decide, fun ai4 e4 => ?_⟩
  have S2 := S1.st (a := 4) (v := 9) (by decide)
  rw [e4]
  refine ⟨by omega, CKD_setWS S2 (by decide) (fun f1 S3 => ⟨by omega, CKD_setS S3 (by decide) (fun f2 S4 => ⟨by omega, CKD_setS S4 (by decide) (fun f3 S5 => ⟨by omega, CKD_close S5 (by decide) (fun f4 S6 => ⟨by omega, fun q hq mO eO mS eS => ⟨by omega, ?_⟩⟩)⟩)⟩)⟩)⟩
  have hai : ∀ r, ¬ r = b → va_up (va_up (va_up (va_up (va_up ai3 b (updI (ai3 b) 4 9)) b f1) b f2) b f3) b f4 r = ai3 r := fun r z => by
    rw [va_up_ne _ _ z, va_up_ne _ _ z, va_up_ne _ _ z, va_up_ne _ _ z, va_up_ne _ _ z]
  generalize va_up (va_up (va_up (va_up (va_up ai3 b (updI (ai3 b) 4 9)) b f1) b f2) b f3) b f4 = ai5 at hai S6 ⊢
  have nq : ∀ r, ¬ kd3 r = 0 → ¬ r = q := fun r hr z => hr (by rw [z]; exact hq)
  have Kq : kdK4 kd3 an3 ai3 mB3 (va_up kd3 q 4) an3 ai3 mB3 := kdK4.it (mX63_bytes := mB3) hq
  have D := C4.2.1.kp Kq
  have lq12 := C3.1.2.1
  have ke1 := C4.2.1.1.2.2.1
  have rg0 : 0 ≤ S.fi := Rg.2.2.2.2.1.1
  unfold wpKD_X64_init wpKD_J7_init
  intro mO2 eO2 mS2 eS2
  rw [eO, va_up_up] at eO2
  rw [eS, va_up_up] at eS2
  refine kOn_of C4.1 ⟨D.1.1, 1, 2 * BB + 104, by omega, CKD_dadd ⟨by omega, ?_⟩ D ?_ (fun i i0 i1 => ?_) (Or.inr (va_up_self _ _ _)) (fun kd4 an4 ar4 E4 H4 T4 e' cap' hd' le D3 hE hA hJ _ => ?_)⟩
  · show 2 * (T.2.2.2.2.2 - S.fi) + 10 ≤ ((2 * BB + 104 : Nat) : Int); omega
  · show T.2.2.2.2.2 - S.fi ≤ 10000; omega
  · have k4 := (C4.2.2 i i0 i1).1.1
    rw [va_up_ne _ _ (nq _ (by omega)), k4]; exact Or.inr rfl
  obtain ⟨K4, he⟩ := kd_kq (mX43_number := mX43_number) (mX43_sectors := mX43_sectors) (mX63_bytes := mB3) (ai := ai3) (b := b) (lq := lq) (ar3 := ar4) (ar4 := ar4) hq le hE hA hJ hai (fun _ _ => rfl) eO2 eS2
  have lqe : ¬ lq = e1 := fun z => by rw [← z] at ke1; omega
  have lqe' : ¬ lq = e' := fun z => by
    rcases he with h | h
    · exact lqe (z.trans h)
    · rw [← z] at h; omega
  have arl : ar4 lq = ar1 lq := hA lq lqe' lqe
  have efn : kdSt (kdSt (kdSt (kdSw (updI (fun _ => 0) 4 (9 % 256)) 8 r) 16 n) 20 (kdHs T.1 S.pl 46).2) 0 (kdSm (kdSt (kdSt (kdSw (updI (fun _ => 0) 4 (9 % 256)) 8 r) 16 n) 20 (kdHs T.1 S.pl 46).2) 28) = fun j => kdHr (fun _ => 0) r n (kdHs T.1 S.pl 46).2 (32 * 0 + j) := by
    unfold kdHr
    rw [kdFl0, kdCl0]
    funext j
    rw [show 32 * 0 + j = j by omega]
    rfl
  rw [efn] at S6
  have O5 := kd_queue (al := al) (mJ22_cursor := J1) (mJ22_remaining := J2) (mJ22_lastRet := J3) (mJ22_this_0 := J4) (mJ23_cursor := J5) (mJ23_lastRet := J6) (mJ23_expectedModCount := mJ23_expectedModCount) (mJ23_this_0 := mJ23_this_0) (S := kdS6 S T) (to := n % 2) (ld' := T.2.2.1) (op' := T.2.1) (src := kdHr (fun _ => 0) r n (kdHs T.1 S.pl 46).2) (fr := 0) (q := q) (s := s) Rg Lt C1 C2 C3 C4 C5 C6 C7 D1 D2 Mo K4 (fun r z => z) (fun r z => z) (fun r z => z) ⟨nb1, nb2, nb3⟩ (fun k k0 k1 kl => ⟨kl, nb4 k k0 k1 kl, fun _ _ _ _ => rfl⟩) (fun k k0 k1 => by rw [arl]; exact C3.2.1 k k0 k1) D3 he ⟨?_, by rw [eO2]; exact va_up_self _ _ _, by rw [eS2]; exact va_up_self _ _ _⟩ ((S6.le Kq.le).le le) (by omega) (by show T.2.2.2.2.2 < 1200; omega)
  rotate_left
  · obtain ⟨l1, _⟩ := le q (by rw [va_up_self]; decide)
    rw [l1, va_up_self]
  have w1d := C4.1
  obtain ⟨Rg5, Lt5, dq5, pq5, lq5, ls5, lb5, d15, e15, c15, h15, w15, ws5, wb5, d25, e25, c25, h25, w25, l5, e35, w35, A1, A2, A3, A4, A5, A6, A7, B1, B2, Mo5⟩ := O5
  have ed1 : d1 = d15 := Option.some.inj (w1d.symm.trans A4.1)
  refine ⟨by omega, fun q3 hq3 mN eN mU eU => ⟨by omega, ?_⟩⟩
  unfold wpKD_X43_init wpKD_J7_init
  intro mN2 eN2 mU2 eU2
  rw [eN, va_up_up] at eN2
  rw [eU, va_up_up] at eU2
  have nq3 : ∀ r, ¬ kd4 r = 0 → ¬ r = q3 := fun r hr z => hr (by rw [z]; exact hq3)
  have Kq3 : kdK4 kd4 an4 ai5 mB3 (va_up kd4 q3 2) an4 ai5 mB3 := kdK4.it (mX63_bytes := mB3) hq3
  have D5 := A5.2.1.kp Kq3
  refine kOn_of A5.1 ⟨D5.1.1, 1, 2410, by omega, CKD_dadd ⟨by omega, ?_⟩ D5 ?_ (fun i i0 i1 => ?_) (Or.inl (va_up_self _ _ _)) (fun kd6 an6 ar6 E6 H6 T6 e6 cap6 hd6 le6 D6 hE6 hA6 hJ6 _ G eG => ⟨by omega, ?_⟩)⟩
  · show 2 * (S.nw - S.ol + 1) + 10 ≤ ((2410 : Nat) : Int); omega
  · show S.nw - S.ol + 1 ≤ 10000; omega
  · have i1' : i < S.nw - S.ol + 1 := i1
    have k4 := (A5.2.2 i i0 (by show i ≤ S.nw - S.ol; omega)).1
    rw [va_up_ne _ _ (nq3 _ (by omega)), k4]; exact Or.inl rfl
  obtain ⟨K6, he6⟩ := kd_ks (ai := ai5) (mX64_to := mO2) (mX64_sector := mS2) (mX63_bytes := mB3) (u := r) hq3 le6 hE6 hA6 hJ6 eN2 eU2
  have O6 := kd_stAdd (al := al) (mJ22_cursor := J1) (mJ22_remaining := J2) (mJ22_lastRet := J3) (mJ22_this_0 := J4) (mJ23_cursor := J5) (mJ23_lastRet := J6) (mJ23_expectedModCount := mJ23_expectedModCount) (mJ23_this_0 := mJ23_this_0) (q := q3) (n := n) (u := r) Rg5 Lt5 A1 A2 A3 A4 A5 A6 A7 B1 B2 Mo5 K6 (fun _ z => z) (fun _ z => z) (fun _ z => z) D6 he6 ⟨?_, by rw [eN2]; exact va_up_self _ _ _, by rw [eU2]; exact va_up_self _ _ _⟩ hr hnw
  rotate_left
  · obtain ⟨l1, _⟩ := le6 q3 (by rw [va_up_self]; decide)
    rw [l1, va_up_self]
  have D7 := A4.2.1.kx K6 (fun z => A7.1.1.2 z) (fun z => A7.1.1.1 z)
  rw [ed1, eG]
  refine CKD_dsize D7 ⟨by show zR ((T.2.2.2.2.2 + 1 - S.fi) - (S.be - S.fi)); omega, by omega, by omega, ?_⟩
  have hh : (T.2.2.2.2.2 + 1 - S.fi) - (S.be - S.fi) = T.2.2.2.2.2 + 1 - S.be := by omega
  have HH := H _ _ _ _ _ _ _ _ _ _ _ _ _ _ _ _ _ _ _ O6
  rw [← hh] at HH
  exact HH
end

/-! KnowDisk, the component: begin; writes that reach the disk, sync, cut -/
def kdBg (S : KS) (nn ss : Int) : KS := (KS.mk (S.dk) (kdCy S.lt S.dk 2048) (S.op) (kdFl S.ld 64 0) (kdFl S.pl 30 (-1)) (updI S.nu 0 nn) (updI S.se 0 ss) (S.ku) (S.ks) (S.tg) (S.by') (S.ru) (S.fu) (0) (0) (0) (0) (0) (0) (S.mo + 1))
theorem dqD.cg {kd an kd' an' : Nat → Nat} {ar ar' : Nat → Int → Option Nat} {mE mE' : Nat → Option Nat} {mH mH' mT mT' : Nat → Int} {d e : Nat} {cap hd n : Int} {el : Int → Nat} (D : dqD kd an ar mE mH mT d e cap hd n el) (le : kLe kd an kd' an') (h1 : mE' d = mE d) (h2 : mH' d = mH d) (h3 : mT' d = mT d) (h4 : ar' e = ar e) : dqD kd' an' ar' mE' mH' mT' d e cap hd n el := by
  obtain ⟨⟨a1, a2, a3, a4, a5⟩, ⟨b1, b2⟩, ⟨t1, t2⟩, E⟩ := D
  exact ⟨⟨(le d (by omega)).1.trans a1, h1.trans a2, (le e (by omega)).1.trans a3, by rw [(le e (by omega)).2]; exact a4, a5⟩, ⟨h2.trans b1, b2⟩, ⟨h3.trans t1, t2⟩, by rw [h4]; exact E⟩
section
variable {kd : Nat → Nat} {an : Nat → Nat} {ai : Nat → Int → Int} {al : Nat → Int → Int} {ar : Nat → Int → Option Nat} {mX42_disk : Nat → Option Nat} {mX42_count : Nat → Int} {mX42_runs : Nat → Int} {mX42_isFull : Nat → Int} {mX42_places : Nat → Option Nat} {mX42_laid : Nat → Option Nat} {mX42_changed : Nat → Int} {mX42_waiting : Nat → Option Nat} {mX42_states : Nat → Option Nat} {mX42_kept : Nat → Option Nat} {mX43_number : Nat → Int} {mX43_sectors : Nat → Int} {mX63_bytes : Nat → Option Nat} {mX64_to : Nat → Int} {mX64_sector : Nat → Option Nat} {mJ1_modCount : Nat → Int} {mJ2_elementData : Nat → Option Nat} {mJ2_size : Nat → Int} {mJ5_elements : Nat → Option Nat} {mJ5_head : Nat → Int} {mJ5_tail : Nat → Int} {mJ22_cursor : Nat → Int} {mJ22_remaining : Nat → Int} {mJ22_lastRet : Nat → Int} {mJ22_this_0 : Nat → Option Nat} {mJ23_cursor : Nat → Int} {mJ23_lastRet : Nat → Int} {mJ23_expectedModCount : Nat → Int} {mJ23_this_0 : Nat → Option Nat} {sa : Nat → Nat} {d e q x l dq pq lq d1 e1 d2 e2 e3 s b : Nat} {cap hd n i c1 h1 c2 h2 : Int} {el f ls lb ws wb w1 w2 w3 w : Int → Nat} {MC MS kc ks' : Nat} {A B : Prop} {dk op lt ld pl tg by' nu se ku ks : Int → Int} {fi be ol nw kn k p v ru fu ch lo : Int} {fn : Int → Int} {P : Nat → Prop} {kd' an' : Nat → Nat} {ai' : Nat → Int → Int} {ar' : Nat → Int → Option Nat} {mB' mS' mE' : Nat → Option Nat} {mO' mN' mU' mH' mT' : Nat → Int} {S : KS} {a to fr nr nn ss : Int} {src op' ld' : Int → Int} {e' sp : Nat} {Q Qr Qd : Nat → Prop}
theorem CKD_b32 {K : (Nat → Int → Int) → Prop} {g : Int → Int} (h : mX42_places x = some pq ∧ kd pq = 9 ∧ an pq = 30) (hK : ∀ g', (∀ p, 0 ≤ p → p < 30 → g' p = -1) → K (va_up ai pq g')) : ∃ fu : Nat, wKD_X42_begin_32 MC MS K x kd an mX42_places fu 0 (va_up ai pq g) := by
  refine wl2 (fun u y a => wKD_X42_begin_32 MC MS K x kd an mX42_places u y a) (fun y a => (0 ≤ y ∧ y ≤ 30) ∧ ∃ g', a = va_up ai pq g' ∧ ∀ p, 0 ≤ p → p < y → g' p = -1) (fun y _ => (30 - y).toNat) ?_ 0 _ ⟨by decide, g, rfl, fun p p0 p1 => by omega⟩
  rintro y a ⟨hy, g', ea, hg⟩ u ih
  rw [wKD_X42_begin_32]
  refine ⟨fun w => by rw [ea]; exact hK g' (fun p p0 p1 => hg p p0 (by omega)), fun w => kOn_of h.1 ⟨h.2.1, by rw [h.2.2]; omega, fun a2 ea2 => ⟨by omega, fun y2 ey => ?_⟩⟩⟩
  subst ey
  rw [ea, va_up_self, va_up_up] at ea2
  refine ih _ _ ⟨by omega, _, ea2, fun p p0 p1 => ?_⟩ (by omega)
  by_cases z : p = y
  · rw [z, updI_s]
  · rw [updI_n z]; exact hg p p0 (by omega)
theorem CKD_b53 {K : (Nat → Int → Option Nat) → Prop} {g : Int → Option Nat} (h : mX42_laid x = some lq ∧ kd lq = 12 ∧ an lq = 64) (hK : ∀ g', (∀ p, 0 ≤ p → p < 64 → g' p = none) → K (va_up ar lq g')) : ∃ fu : Nat, wKD_X42_begin_53 MC MS K x kd an mX42_laid fu 0 (va_up ar lq g) := by
  refine wl2 (fun u y a => wKD_X42_begin_53 MC MS K x kd an mX42_laid u y a) (fun y a => (0 ≤ y ∧ y ≤ 64) ∧ ∃ g', a = va_up ar lq g' ∧ ∀ p, 0 ≤ p → p < y → g' p = none) (fun y _ => (64 - y).toNat) ?_ 0 _ ⟨by decide, g, rfl, fun p p0 p1 => by omega⟩
  rintro y a ⟨hy, g', ea, hg⟩ u ih
  rw [wKD_X42_begin_53]
  refine ⟨fun w => by rw [ea]; exact hK g' (fun p p0 p1 => hg p p0 (by omega)), fun w => kOn_of h.1 ⟨h.2.1, by rw [h.2.2]; omega, fun a2 ea2 => ⟨by omega, fun y2 ey => ?_⟩⟩⟩
  subst ey
  rw [ea, va_up_self, va_up_up] at ea2
  refine ih _ _ ⟨by omega, _, ea2, fun p p0 p1 => ?_⟩ (by omega)
  by_cases z : p = y
  · rw [z, updI_s]
  · rw [updI_n z]; exact hg p p0 (by omega)
theorem CKD_begin {post : (Nat → Nat) → (Nat → Nat) → (Nat → Int → Int) → (Nat → Int → Option Nat) → (Nat → Int) → (Nat → Int) → (Nat → Int) → (Nat → Option Nat) → (Nat → Int) → (Nat → Int) → Prop} (hM : 1 ≤ MC ∧ 10 ≤ MS) (hmo : S.mo < 90000) (O : kdOB kd an ai al ar mX42_disk mX42_count mX42_runs mX42_isFull mX42_places mX42_laid mX42_changed mX42_waiting mX42_states mX42_kept mX43_number mX43_sectors mX63_bytes mX64_to mX64_sector mJ1_modCount mJ2_elementData mJ2_size mJ5_elements mJ5_head mJ5_tail mJ22_cursor mJ22_remaining mJ22_lastRet mJ22_this_0 mJ23_cursor mJ23_lastRet mJ23_expectedModCount mJ23_this_0 sa x S) (hsp : kd sp = 2 ∧ mX43_number sp = nn ∧ mX43_sectors sp = ss) (hz : zL ss) (hk4 : S.kn ≤ 4) (H : ∀ kd' an' ai' ar' G' M' Z' E' H' T', kdOK (kd') (an') (ai') al (ar') mX42_disk mX42_count mX42_runs mX42_isFull mX42_places mX42_laid (G') mX42_waiting mX42_states mX42_kept mX43_number mX43_sectors mX63_bytes mX64_to mX64_sector (M') mJ2_elementData (Z') (E') (H') (T') mJ22_cursor mJ22_remaining mJ22_lastRet mJ22_this_0 mJ23_cursor mJ23_lastRet mJ23_expectedModCount mJ23_this_0 sa x (kdBg S nn ss) → post kd' an' ai' ar' G' M' Z' E' H' T') : wpKD_X42_begin MC MS post kd an ai ar mX42_places mX42_laid mX42_changed mX42_waiting mX42_states mX42_kept mJ1_modCount mJ2_elementData mJ2_size mJ5_elements mJ5_head mJ5_tail sa x (some sp) := by
  obtain ⟨dq, pq, lq, ls, lb, d1, e1, c1, h1, w1, ws, wb, d2, e2, c2, h2, w2, l, e3, w3, C1, C2, C3, C4, C5, C6, C7, D1, D2, Mo⟩ := O
  have kpq := C2.1.2.1
  have klq := C3.1.2.1
  have ke1 := C4.2.1.1.2.2.1
  have ke2 := C5.2.1.1.2.2.1
  have kdq := C1.1.2.2.1
  have nd := C7.1.1.1
  have ne := C7.1.1.2
  unfold wpKD_X42_begin
  refine kOn_of C5.1 ⟨C5.2.1.1.1, by omega, CKD_dclear C5.2.1 (fun g1 Da => ⟨1, 10, by omega, CKD_dadd (n := 0) ⟨by omega, by omega⟩ Da (by decide) (fun i i0 i1 => by omega) (Or.inl hsp.1) (fun kd2 an2 ar2 E2 H2 T2 e' cap' hd' le Db hE hA hJ _ => ?_)⟩)⟩
  have he : e' = e2 ∨ kd e' = 0 := hE.elim (fun h => Or.inl h.1) (fun h => Or.inr h.1)
  have ke' : kd2 e' = 13 := Db.1.2.2.1
  have ne1 : ¬ e1 = e' := fun z => by
    rcases he with h | h
    · exact ne (z.trans h)
    · rw [← z] at h; omega
  have nlq' : ¬ lq = e' := fun z => by
    rcases he with h | h
    · rw [← h, ← z] at ke2; omega
    · rw [← z] at h; omega
  have o3 := C6.2.1.own
  have a3 : 0 < S.kn → ¬ e3 = e' ∧ ¬ e3 = e2 ∧ ¬ e3 = e1 := fun n0 => ⟨fun z => by
    rcases he with h | h
    · exact D2.1 n0 (z.trans h)
    · have k3 := (C6.2.1.at (Int.le_refl 0) n0).1
      rw [← z] at h; omega, D2.1 n0, D1.1 n0⟩
  have L2 : lsOK kd2 an2 ar2 mJ2_elementData mJ2_size 13 (sa 0) l e3 S.kn w3 := by
    obtain ⟨p1, p2, p3, p4, _⟩ := C6.2.1.mono (kd' := kd2) (an' := an2) (by decide) le
    refine ⟨p1, p2, p3, p4, fun i i0 i1 => ?_⟩
    obtain ⟨_, _, eq⟩ := C6.2.1.at i0 i1
    have q := a3 (by omega)
    rw [hA e3 q.1 q.2.1, va_up_ne _ _ q.2.1]; exact eq
  have mm := C6.2.2.1
  refine kOn_of C6.1.1 ⟨(le l (by have := C6.1.2; omega)).1.trans C6.1.2, by omega, CKD_lclear L2 (by omega) (by omega) (fun g2 hg2 => ?_)⟩
  have ar3e : ∀ r, (0 < S.kn → ¬ r = e3) → va_up ar2 e3 g2 r = ar2 r := fun r h => by
    by_cases z : r = e3
    · have n0 : S.kn = 0 := by
        have := C6.2.1.2.2.1
        have : ¬ 0 < S.kn := fun n0 => h n0 z
        omega
      rw [z, va_up_self, hg2 n0]
    · exact va_up_ne _ _ z
  have Dc0 : dqD kd2 an2 (va_up ar2 e3 g2) E2 H2 T2 d1 e1 c1 h1 (S.be - S.fi) w1 := C4.2.1.cg le (hJ d1 nd).1 ((hJ d1 nd).2.1.trans (va_up_ne _ _ nd)) ((hJ d1 nd).2.2.trans (va_up_ne _ _ nd)) (by rw [ar3e e1 (fun n0 z => (a3 n0).2.2 z.symm), hA e1 ne1 ne]; exact va_up_ne _ _ ne)
  refine kOn_of C4.1 ⟨Dc0.1.1, by omega, CKD_dclear Dc0 (fun g3 Dc => ?_)⟩
  have ai0 : va_up ai pq (ai pq) = ai := va_up_it
  have hb := CKD_b32 (MC := MC) (MS := MS) (x := x) (pq := pq) (kd := kd2) (an := an2) (ai := ai) (mX42_places := mX42_places) (g := ai pq) (K := fun (ai_37 : Nat → Int → Int) => (∃ fu : Nat, wKD_X42_begin_53 MC MS (fun (ar_45 : Nat → Int → Option Nat) => ∀ mX42_changed_46 : Nat → Int, mX42_changed_46 = va_up mX42_changed x 0 → ((0 + 1) ≤ MC ∧ (0 + 10) ≤ MS ∧ post kd2 an2 ai_37 ar_45 mX42_changed_46 (va_up mJ1_modCount l (mJ1_modCount l + 1)) (va_up mJ2_size l 0) E2 (va_up H2 d1 0) (va_up T2 d1 0))) x kd2 an2 mX42_laid fu 0 (va_up (va_up ar2 e3 g2) e1 g3))) ⟨C2.1.1, (le pq (by omega)).1.trans kpq, (le pq (by omega)).2.trans C2.1.2.2⟩ (fun g4 hg4 => ?_)
  · rw [ai0] at hb; exact hb
  have ar0 : va_up (va_up (va_up ar2 e3 g2) e1 g3) lq (va_up (va_up ar2 e3 g2) e1 g3 lq) = va_up (va_up ar2 e3 g2) e1 g3 := va_up_it
  have hl := CKD_b53 (MC := MC) (MS := MS) (x := x) (lq := lq) (kd := kd2) (an := an2) (ar := va_up (va_up ar2 e3 g2) e1 g3) (mX42_laid := mX42_laid) (g := va_up (va_up ar2 e3 g2) e1 g3 lq) (K := fun (ar_45 : Nat → Int → Option Nat) => ∀ mX42_changed_46 : Nat → Int, mX42_changed_46 = va_up mX42_changed x 0 → ((0 + 1) ≤ MC ∧ (0 + 10) ≤ MS ∧ post kd2 an2 (va_up ai pq g4) ar_45 mX42_changed_46 (va_up mJ1_modCount l (mJ1_modCount l + 1)) (va_up mJ2_size l 0) E2 (va_up H2 d1 0) (va_up T2 d1 0))) ⟨C3.1.1, (le lq (by omega)).1.trans klq, (le lq (by omega)).2.trans C3.1.2.2⟩ (fun g5 hg5 G eG => ⟨by omega, by omega, ?_⟩)
  · rw [ar0] at hl; exact hl
  rw [eG]
  have nlq1 : ¬ e1 = lq := fun z => by rw [z] at ke1; omega
  have fl : ∀ k, 0 ≤ k → k < 64 → kdFl S.ld 64 0 k = 0 := fun k k0 k1 => by unfold kdFl; rw [if_pos ⟨k0, k1⟩]
  have fp : ∀ k, 0 ≤ k → k < 30 → kdFl S.pl 30 (-1) k = -1 := fun k k0 k1 => by unfold kdFl; rw [if_pos ⟨k0, k1⟩]
  refine H kd2 an2 _ _ _ _ _ E2 _ _ ⟨⟨fun p p0 p1 => Or.inl (fp p p0 p1), fun s s0 s1 => absurd s1 (by show ¬ s < 0; have : 0 ≤ s := s0; omega), fun s s0 s1 => ?_, fun s s0 s1 => absurd s1 (by show ¬ s < 0; omega), by show (0 : Int) ≤ 0 ∧ (0 : Int) ≤ 0 ∧ (0 : Int) ≤ 1200; decide, by show (0 : Int) ≤ 0 ∧ (0 : Int) ≤ 0 ∧ (0 : Int) < 1200; decide, by show (0 : Int) ≤ 0 ∧ (0 : Int) ≤ 4; decide⟩, ⟨fun w w0 w1' => absurd w1' (by show ¬ w < 0; have : 0 ≤ w := w0; omega), fun k k0 k1 _ j j0 j1 => ?_⟩, dq, pq, lq, ls, lb, d1, e1, c1, 0, w1, ws, wb, d2, e', cap', hd', updI w2 0 sp, l, e3, w3, ⟨⟨?_, C1.1.2.1, ?_, ?_⟩, ⟨C1.2.1.1, C1.2.1.2.1, C1.2.1.2.2.1, va_up_self _ _ _⟩, fun i i0 i1 => ?_⟩, ⟨⟨C2.1.1, (le pq (by omega)).1.trans kpq, (le pq (by omega)).2.trans C2.1.2.2⟩, fun p p0 p1 => ?_⟩, ⟨⟨C3.1.1, (le lq (by omega)).1.trans klq, (le lq (by omega)).2.trans C3.1.2.2⟩, fun k k0 k1 => ?_, fun k k0 k1 kl => absurd (fl k k0 k1) kl⟩, ⟨C4.1, Dc.ar' (va_up_ne _ _ nlq1), fun i i0 i1 => absurd i1 (by show ¬ i < 0 - 0; omega)⟩, ⟨C5.1, ?_, fun i i0 i1 => ?_⟩, ⟨⟨C6.1.1, (le l (by have := C6.1.2; omega)).1.trans C6.1.2⟩, ?_, ?_, fun i i0 i1 => absurd i1 (by show ¬ i < 0; omega)⟩, ⟨⟨⟨nd, ne1⟩, fun k k0 k1 kl => absurd (fl k k0 k1) kl⟩, fun i i0 i1 => absurd i1 (by show ¬ i < 0 - 0; omega)⟩, ⟨fun n0 => absurd n0 (by show ¬ (0 : Int) < 0; decide), D1.2.le (by decide) le o3 (Or.inl ke1)⟩, ⟨fun n0 => absurd n0 (by show ¬ (0 : Int) < 0; decide), ?_⟩, ?_, ?_⟩
  · have s0' : 0 ≤ s := s0
    have s1' : s ≤ 0 := s1
    show zL (updI S.se 0 ss s)
    rw [show s = 0 by omega, updI_s]; exact hz
  · show kdCy S.lt S.dk 2048 (32 * k + j) = S.dk (32 * k + j)
    unfold kdCy
    rw [if_pos (by omega)]
  · exact (le x (by have := C1.1.1; omega)).1.trans C1.1.1
  · exact (le dq (by omega)).1.trans kdq
  · exact (le dq (by omega)).2.trans C1.1.2.2.2
  · have nq : ¬ dq = pq := fun z => by rw [z] at kdq; omega
    rw [va_up_ne _ _ nq]; exact C1.2.2 i i0 i1
  · rw [va_up_self, hg4 p p0 p1]; exact (fp p p0 p1).symm
  · rw [va_up_self, hg5 k k0 k1]
    show none = if kdFl S.ld 64 0 k = 0 then none else some (ls k)
    rw [if_pos (fl k k0 k1)]
  · have Db2 : dqD kd2 an2 ar2 E2 H2 T2 d2 e' cap' hd' (0 - 0 + 1) (updI w2 0 sp) := Db
    refine Db2.cg (fun a ha => ⟨rfl, rfl⟩) rfl (va_up_ne _ _ (fun z => nd z.symm)) (va_up_ne _ _ (fun z => nd z.symm)) ?_
    rw [va_up_ne _ _ (fun z => nlq' z.symm), va_up_ne _ _ (fun z => ne1 z.symm)]
    exact ar3e e' (fun n0 z => (a3 n0).1 z.symm)
  · have i1' : i ≤ 0 - 0 := i1
    have ei : i = 0 := by omega
    show kd2 (updI w2 0 sp i) = 2 ∧ mX43_number (updI w2 0 sp i) = updI S.nu 0 nn (0 + i) ∧ mX43_sectors (updI w2 0 sp i) = updI S.se 0 ss (0 + i)
    rw [ei, updI_s, show (0 : Int) + 0 = 0 by decide, updI_s, updI_s]
    exact ⟨(le sp (by rw [hsp.1]; decide)).1.trans hsp.1, hsp.2⟩
  · obtain ⟨p1, p2, p3, p4, _⟩ := L2
    refine ⟨p1, va_up_self _ _ _, Int.le_refl 0, ?_, fun i i0 i1 => absurd i1 (by show ¬ i < 0; omega)⟩
    rcases p4 with h | h
    · exact Or.inl ⟨h.1, h.2.1, by show (0 : Int) ≤ _; omega⟩
    · exact Or.inr ⟨h.1, rfl⟩
  · rw [va_up_self]; omega
  · rcases he with z | z
    · rw [z]; exact D2.2.le (by decide) le o3 (Or.inl ke2)
    · exact (D2.2.symm.up (by decide) le o3 (Or.inr z)).symm
  · show va_up mJ1_modCount l (mJ1_modCount l + 1) l ≤ S.mo + 1
    rw [va_up_self]; omega
  · show S.mo + 1 ≤ 90000
    omega
end
