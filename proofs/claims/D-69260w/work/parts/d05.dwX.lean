/-! DatatypeValues, the component: a day as a date; months added -/
section
variable {x y m d o : Int}
theorem dvP1 (h : 0 ≤ o ∧ o < 146097) : zR (((o - o / 1460) + o / 36524) - o / 146096) ∧ 0 ≤ ((o - o / 1460) + o / 36524) - o / 146096 := by omega
theorem dvP2 (h : 0 ≤ o ∧ o < 146097) : 0 ≤ dvQy o ∧ dvQy o ≤ 399 ∧ zR (o - (((365 * dvQy o) + dvQy o / 4) - dvQy o / 100)) := by
  have Y := (dvQy_s h).1
  refine ⟨Y.1, Y.2, ?_⟩
  generalize dvQy o = b at Y
  omega
theorem dvP3 (h : 0 ≤ o ∧ o < 146097) : (0 ≤ dvQd o ∧ dvQd o ≤ 365) ∧ zR (5 * dvQd o + 2) ∧ 0 ≤ 5 * dvQd o + 2 := by
  have Q := dvQd_b h
  have Q1 := Q.1
  have Q2 := Q.2.1
  clear Q
  generalize dvQd o = b at Q1 Q2
  omega
theorem dvP4 (h : 0 ≤ o ∧ o < 146097) : 0 ≤ dvQm o ∧ dvQm o ≤ 11 := by
  have Q := (dvP3 h).1
  have e : dvQm o = (5 * dvQd o + 2) / 153 := rfl
  rw [e]
  clear e h
  generalize dvQd o = b at Q
  omega
theorem dvYy_c (h : -200000000 ≤ x ∧ x ≤ 200000000) : -1000000 ≤ dvYy x ∧ dvYy x ≤ 1000000 := by
  have Y := dvP2 (o := (x + 719468) % 146097) (by omega)
  unfold dvYy
  generalize dvQy ((x + 719468) % 146097) = b at Y
  split <;> omega
theorem dvOf_r (hy : -200000000 ≤ y ∧ y ≤ 200000000) (hm : 1 ≤ m ∧ m ≤ 12) (hd : -1000 ≤ d ∧ d ≤ 1000) : -74001000000 ≤ dvOf y m d ∧ dvOf y m d ≤ 74001000000 := by
  have oe := dvOf_e (y := y) (d := d) hm
  have b1 := dvYs_b2 hy
  have b2 := dvMd_b (y := y) (m.toNat - 1) (by omega)
  rw [← oe]
  generalize dvYs y = a at b1
  generalize dvMd y (m.toNat - 1) = b at b2
  omega
end
section
variable {kd : Nat → Nat} {an : Nat → Nat} {ai : Nat → Int → Int} {al : Nat → Int → Int} {ar : Nat → Int → Option Nat} {mX6_tape : Nat → Option Nat} {mX6_size : Nat → Int} {mX6_values : Nat → Option Nat} {mX6_count : Nat → Int} {mX6_writer : Nat → Option Nat} {mX7_bytes : Nat → Option Nat} {mX7_size : Nat → Int} {mX67_tape : Nat → Option Nat} {mX67_size : Nat → Int} {mX67_at : Nat → Int} {mX67_wrong : Nat → Option Nat} {mX67_place : Nat → Int} {mX68_kind : Nat → Int} {mX69_upper : Nat → Int} {mX69_lower : Nat → Int} {mX70_is : Nat → Int} {mX72_millis : Nat → Int} {mX72_zone : Nat → Int} {mX73_months : Nat → Int} {mX73_millis : Nat → Int} {mX74_bytes : Nat → Option Nat} {sa : Nat → Nat} {so : kSo} {x y c mo mi t : Int} {MC MS kc ks : Nat}
theorem CDV_d138 {post : Option Nat → (Nat → Nat) → (Nat → Nat) → (Nat → Int → Int) → Prop} {q : Nat} {d m v : Int} {D : Int → Int} (hk : kc ≤ MC ∧ ks ≤ MS) (kq : kd q = 9) (aq : an q = 3) (hd : 0 ≤ d ∧ d ≤ 400) (hm : 0 ≤ m ∧ m ≤ 12) (H : post (some q) kd an (va_up ai q (updI (updI D 1 v) 2 (d - (153 * m + 2) / 5 + 1)))) : wDV_X71_date_138 MC MS post d m (some q) (some q) 1 v kd an (va_up ai q D) kc ks := by
  unfold wDV_X71_date_138
  refine kOn_some ⟨kq, by rw [aq]; decide, fun A eA => ⟨by omega, by omega, by omega, fun v2 e2 => kOn_some ⟨kq, by rw [aq]; decide, fun A2 eA2 => ⟨hk.1, hk.2, ?_⟩⟩⟩⟩
  rw [va_up_self, va_up_up] at eA
  rw [eA, va_up_self, va_up_up] at eA2
  rw [eA2, e2]; exact H
theorem CDV_dateOf {post : Option Nat → (Nat → Nat) → (Nat → Nat) → (Nat → Int → Int) → Prop} (hM : 1 ≤ MC ∧ 3 ≤ MS) (hx : -200000000 ≤ x ∧ x ≤ 200000000) (H : ∀ q D, kd q = 0 → D 0 = dvYy x → D 1 = dvMm x → D 2 = dvDd x → post (some q) (va_up kd q 9) (va_up an q 3) (va_up ai q D)) : wpDV_X71_date MC MS post kd an ai x := by
  have nl := Nat.zero_le
  unfold wpDV_X71_date
  refine ⟨by omega, fun d ed => ⟨⟨nl _, nl _⟩, CDV_floorDiv (by decide) (by omega) (by decide) ⟨⟨nl _, nl _⟩, CDV_floorMod (by decide) (by omega) (by decide) ⟨by omega, fun o eo => ?_⟩⟩⟩⟩
  subst ed
  have ob : 0 ≤ o ∧ o < 146097 := by omega
  have eb : -200000 ≤ (x + 719468) / 146097 ∧ (x + 719468) / 146097 ≤ 200000 := by omega
  have yy : dvYy x = 400 * ((x + 719468) / 146097) + dvQy o + (if 9 < dvQm o then 1 else 0) := by unfold dvYy; rw [← eo]
  have mm : dvMm x = if 9 < dvQm o then dvQm o - 9 else dvQm o + 3 := by unfold dvMm; rw [← eo]
  have dd : dvDd x = dvQd o - (153 * dvQm o + 2) / 5 + 1 := by unfold dvDd; rw [← eo]
  have P1 := dvP1 ob
  have P2 := dvP2 ob
  have P3 := dvP3 ob
  have P4 := dvP4 ob
  clear eo hx
  generalize (x + 719468) / 146097 = e at eb yy ⊢
  refine ⟨ob.1, P1.1, P1.2, fun x7 e7 => ?_⟩
  have e7' : x7 = dvQy o := e7
  clear e7; subst e7'
  refine ⟨P2.1, P2.2.2, fun x8 e8 => ?_⟩
  have e8' : x8 = dvQd o := e8
  clear e8; subst e8'
  refine ⟨P3.2.1, P3.2.2, fun x9 e9 => ?_⟩
  have e9' : x9 = dvQm o := e9
  clear e9; subst e9'
  have P2a := P2.1
  have P2b := P2.2.1
  have P3a := P3.1
  clear P1 P2 P3 ob
  generalize dvQy o = Y at P2a P2b yy ⊢
  generalize dvQd o = F at P3a dd ⊢
  generalize dvQm o = M at P4 yy mm dd ⊢
  have R : zL (400 * e + Y) := by clear yy mm dd; omega
  have R0 : zR (400 * e + Y + 0) ∧ zR (400 * e + Y + 1) := by clear yy mm dd; omega
  have M12 : 0 ≤ M ∧ M ≤ 12 := by clear yy mm dd; omega
  have F4 : 0 ≤ F ∧ F ≤ 400 := by clear yy mm dd; omega
  have M3 : zR (M + 3) ∧ zR (M - 9) := by clear yy mm dd; omega
  refine ⟨⟨by omega, by omega⟩, fun q hq A eA => ?_⟩
  have kq : va_up kd q 9 q = 9 := va_up_self _ _ _
  have aq : va_up an q 3 q = 3 := va_up_self _ _ _
  have fin : ∀ v0 v1 : Int, v0 = dvYy x → v1 = dvMm x → wDV_X71_date_138 MC MS post F M (some q) (some q) 1 v1 (va_up kd q 9) (va_up an q 3) (va_up ai q (updI (fun _ => 0) 0 v0)) (0 + 1) (0 + 3) := fun v0 v1 h0 h1 => by
    refine CDV_d138 (by omega) kq aq F4 M12 (H q _ hq ?_ ?_ ?_)
    · rw [updI_n (by decide), updI_n (by decide), updI_s]; exact h0
    · rw [updI_n (by decide), updI_s]; exact h1
    · rw [updI_s]; exact dd.symm
  refine ⟨fun z => ⟨R, ?_⟩, fun z => ⟨R, ?_⟩⟩
  · have z9 : ¬ 9 < M := Int.not_lt.mpr z
    rw [if_neg z9] at yy mm
    unfold wDV_X71_date_113
    refine ⟨R0.1, fun v ev => kOn_some ⟨kq, by rw [aq]; decide, fun A2 eA2 => ⟨fun _ => ⟨M3.1, ?_⟩, fun w => absurd z w⟩⟩⟩
    rw [eA, va_up_self, va_up_up] at eA2
    rw [eA2]
    exact fin _ _ (by rw [yy, ev]) mm.symm
  · have z9 : 9 < M := Int.not_le.mp z
    rw [if_pos z9] at yy mm
    unfold wDV_X71_date_113
    refine ⟨R0.2, fun v ev => kOn_some ⟨kq, by rw [aq]; decide, fun A2 eA2 => ⟨fun w => absurd w z, fun _ => ⟨M3.2, ?_⟩⟩⟩⟩
    rw [eA, va_up_self, va_up_up] at eA2
    rw [eA2]
    exact fin _ _ (by rw [yy, ev]) mm.symm
theorem CDV_dadd {post : Int → (Nat → Nat) → (Nat → Nat) → (Nat → Int → Int) → Prop} (hM : 1 ≤ MC ∧ 3 ≤ MS) (ht : -10000000000000000 ≤ t ∧ t ≤ 10000000000000000) (hmo : -1000000000 ≤ mo ∧ mo ≤ 1000000000) (hmi : -10000000000000000 ≤ mi ∧ mi ≤ 10000000000000000) (H : ∀ q D, kd q = 0 → post (dvLt t mo mi) (va_up kd q 9) (va_up an q 3) (va_up ai q D)) : wpDV_X71_add MC MS post kd an ai t mo mi := by
  have nl := Nat.zero_le
  have Yb := dvYy_c (x := t / 86400000) (by omega)
  have F := (dvF_ok (t / 86400000)).1
  have Fb : dvDd (t / 86400000) ≤ 31 := by
    have := (dvLn_b (y := dvYy (t / 86400000)) (m := dvMm (t / 86400000))).2
    have := F.2.2
    omega
  unfold dvOk at F
  have F1 := F.1
  have F2 := F.2.1
  clear F
  have lt : dvLt t mo mi = dvLt t mo mi := rfl
  conv at lt => rhs; unfold dvLt
  unfold wpDV_X71_add
  refine ⟨⟨nl _, nl _⟩, CDV_floorDiv (by decide) (by omega) (by decide) ⟨1, 3, by omega, CDV_dateOf (by decide) (by omega) (fun q D hq d0 d1 d2 _ => ?_)⟩⟩
  have kq : va_up kd q 9 q = 9 := va_up_self _ _ _
  have aq : va_up an q 3 q = 3 := va_up_self _ _ _
  refine kOn_some ⟨kq, by rw [aq]; decide, by rw [aq]; decide, ?_⟩
  rw [va_up_self, d0, d1, d2]
  have Hq := H q D hq
  rw [lt] at Hq
  clear lt H d0 d1 d2
  generalize dvYy (t / 86400000) = yy at Yb Hq ⊢
  generalize dvMm (t / 86400000) = mm at F1 Hq ⊢
  generalize dvDd (t / 86400000) = dd at F2 Fb Hq ⊢
  refine ⟨by omega, fun al ea => ?_⟩
  rw [← ea] at Hq
  have alb : -1200000000 ≤ al ∧ al ≤ 1200000000 := by omega
  have k1 : 0 + 1 ≤ MC ∧ 0 + 3 ≤ MS := by omega
  refine ⟨k1, CDV_floorDiv (by decide) (by omega) (by decide) ⟨k1, CDV_floorMod (by decide) (by omega) (by decide) ⟨by omega, fun m em => ⟨by rw [aq]; decide, k1, CDV_length (by omega) ⟨k1, k1, ?_⟩⟩⟩⟩⟩
  rw [← em] at Hq
  have L := dvLn_b (y := al / 12) (m := m)
  have hm : 1 ≤ m ∧ m ≤ 12 := by omega
  have ab : -200000000 ≤ al / 12 ∧ al / 12 ≤ 200000000 := by omega
  generalize al / 12 = Y at ab L Hq ⊢
  generalize dvLn Y m = l at L Hq ⊢
  have e : (if l < dd then l else dd) = (if dd < l then dd else l) := by split <;> split <;> omega
  rw [e]
  have hd : -1000 ≤ (if dd < l then dd else l) ∧ (if dd < l then dd else l) ≤ 1000 := by split <;> omega
  generalize (if dd < l then dd else l) = d at hd Hq ⊢
  have ob := dvOf_r ab hm hd
  refine CDV_of (by omega) hm hd ⟨k1, CDV_floorMod (by decide) (by omega) (by decide) ⟨?_, k1.1, k1.2, Hq⟩⟩
  generalize dvOf Y m d = O at ob ⊢
  clear Hq e
  omega
end

/-! DatatypeValues, the component: what persists; a value kept as an object; a tape read as a kind -/
/-- what was there is there still -/
def dvKp (h g : HpDV) : Prop := ∀ r, ¬ h.kd r = 0 → g.kd r = h.kd r ∧ g.an r = h.an r ∧ g.ai r = h.ai r ∧ g.ar r = h.ar r ∧ g.mX6_tape r = h.mX6_tape r ∧ g.mX6_size r = h.mX6_size r ∧ g.mX6_values r = h.mX6_values r ∧ g.mX6_count r = h.mX6_count r ∧ g.mX6_writer r = h.mX6_writer r ∧ g.mX7_bytes r = h.mX7_bytes r ∧ g.mX7_size r = h.mX7_size r ∧ g.mX68_kind r = h.mX68_kind r ∧ g.mX69_upper r = h.mX69_upper r ∧ g.mX69_lower r = h.mX69_lower r ∧ g.mX70_is r = h.mX70_is r ∧ g.mX72_millis r = h.mX72_millis r ∧ g.mX72_zone r = h.mX72_zone r ∧ g.mX73_months r = h.mX73_months r ∧ g.mX73_millis r = h.mX73_millis r ∧ g.mX74_bytes r = h.mX74_bytes r
/-- the object r is a value; its bytes are not the tape nor the writer's -/
def dvO (h : HpDV) (qt qw r : Nat) (k one two : Int) (row : Int → Int) : Prop := h.mX68_kind r = k ∧ (k ≤ 2 → h.kd r = 4 ∧ h.mX69_upper r = one ∧ h.mX69_lower r = two) ∧ (k = 3 → h.kd r = 5 ∧ h.mX70_is r = one) ∧
  (k = 4 ∨ k = 5 → h.kd r = 6 ∧ h.mX72_millis r = one ∧ h.mX72_zone r = two) ∧ (k = 6 → h.kd r = 7 ∧ h.mX73_months r = one ∧ h.mX73_millis r = two) ∧
  (6 < k → h.kd r = 8 ∧ ∃ q, h.mX74_bytes r = some q ∧ (¬ q = qt ∧ ¬ q = qw) ∧ h.kd q = 10 ∧ (h.an q : Int) = one ∧ ∀ i, 0 ≤ i → i < one → (-128 ≤ h.ai q i ∧ h.ai q i < 128) ∧ h.ai q i % 256 = row i)
theorem dvKp.rfl {h : HpDV} : dvKp h h := fun _ _ => ⟨_root_.rfl, _root_.rfl, _root_.rfl, _root_.rfl, _root_.rfl, _root_.rfl, _root_.rfl, _root_.rfl, _root_.rfl, _root_.rfl, _root_.rfl, _root_.rfl, _root_.rfl, _root_.rfl, _root_.rfl, _root_.rfl, _root_.rfl, _root_.rfl, _root_.rfl, _root_.rfl⟩
theorem dvKp.kd {h g : HpDV} (K : dvKp h g) {r : Nat} (hr : ¬ h.kd r = 0) : g.kd r = h.kd r := (K r hr).1
theorem dvKp.trans {h g f : HpDV} (K : dvKp h g) (J : dvKp g f) : dvKp h f := fun r hr => by
  have a := K r hr
  have b := J r (by rw [a.1]; exact hr)
  exact ⟨b.1.trans a.1, b.2.1.trans a.2.1, b.2.2.1.trans a.2.2.1, b.2.2.2.1.trans a.2.2.2.1, b.2.2.2.2.1.trans a.2.2.2.2.1, b.2.2.2.2.2.1.trans a.2.2.2.2.2.1, b.2.2.2.2.2.2.1.trans a.2.2.2.2.2.2.1, b.2.2.2.2.2.2.2.1.trans a.2.2.2.2.2.2.2.1, b.2.2.2.2.2.2.2.2.1.trans a.2.2.2.2.2.2.2.2.1, b.2.2.2.2.2.2.2.2.2.1.trans a.2.2.2.2.2.2.2.2.2.1, b.2.2.2.2.2.2.2.2.2.2.1.trans a.2.2.2.2.2.2.2.2.2.2.1, b.2.2.2.2.2.2.2.2.2.2.2.1.trans a.2.2.2.2.2.2.2.2.2.2.2.1, b.2.2.2.2.2.2.2.2.2.2.2.2.1.trans a.2.2.2.2.2.2.2.2.2.2.2.2.1, b.2.2.2.2.2.2.2.2.2.2.2.2.2.1.trans a.2.2.2.2.2.2.2.2.2.2.2.2.2.1, b.2.2.2.2.2.2.2.2.2.2.2.2.2.2.1.trans a.2.2.2.2.2.2.2.2.2.2.2.2.2.2.1, b.2.2.2.2.2.2.2.2.2.2.2.2.2.2.2.1.trans a.2.2.2.2.2.2.2.2.2.2.2.2.2.2.2.1, b.2.2.2.2.2.2.2.2.2.2.2.2.2.2.2.2.1.trans a.2.2.2.2.2.2.2.2.2.2.2.2.2.2.2.2.1, b.2.2.2.2.2.2.2.2.2.2.2.2.2.2.2.2.2.1.trans a.2.2.2.2.2.2.2.2.2.2.2.2.2.2.2.2.2.1, b.2.2.2.2.2.2.2.2.2.2.2.2.2.2.2.2.2.2.1.trans a.2.2.2.2.2.2.2.2.2.2.2.2.2.2.2.2.2.2.1, b.2.2.2.2.2.2.2.2.2.2.2.2.2.2.2.2.2.2.2.trans a.2.2.2.2.2.2.2.2.2.2.2.2.2.2.2.2.2.2.2⟩
theorem dvO.kd {h : HpDV} {qt qw r : Nat} {k one two : Int} {row : Int → Int} (O : dvO h qt qw r k one two row) (hk : 0 ≤ k ∧ k ≤ 8) : h.kd r = 4 ∨ h.kd r = 5 ∨ h.kd r = 6 ∨ h.kd r = 7 ∨ h.kd r = 8 := by
  obtain ⟨_, o1, o2, o3, o4, o5⟩ := O
  by_cases k2 : k ≤ 2
  · exact Or.inl (o1 k2).1
  by_cases k3 : k = 3
  · exact Or.inr (Or.inl (o2 k3).1)
  by_cases k4 : k = 4 ∨ k = 5
  · exact Or.inr (Or.inr (Or.inl (o3 k4).1))
  by_cases k6 : k = 6
  · exact Or.inr (Or.inr (Or.inr (Or.inl (o4 k6).1)))
  · exact Or.inr (Or.inr (Or.inr (Or.inr (o5 (by omega)).1)))
theorem dvO.kp {h g : HpDV} {qt qw r : Nat} {k one two : Int} {row : Int → Int} (O : dvO h qt qw r k one two row) (hk : 0 ≤ k ∧ k ≤ 8) (K : dvKp h g) : dvO g qt qw r k one two row := by
  have kr := O.kd hk
  have a := K r (by omega)
  obtain ⟨o0, o1, o2, o3, o4, o5⟩ := O
  refine ⟨a.2.2.2.2.2.2.2.2.2.2.2.1.trans o0, fun q => ?_, fun q => ?_, fun q => ?_, fun q => ?_, fun q => ?_⟩
  · have z := o1 q
    exact ⟨a.1.trans z.1, a.2.2.2.2.2.2.2.2.2.2.2.2.1.trans z.2.1, a.2.2.2.2.2.2.2.2.2.2.2.2.2.1.trans z.2.2⟩
  · have z := o2 q
    exact ⟨a.1.trans z.1, a.2.2.2.2.2.2.2.2.2.2.2.2.2.2.1.trans z.2⟩
  · have z := o3 q
    exact ⟨a.1.trans z.1, a.2.2.2.2.2.2.2.2.2.2.2.2.2.2.2.1.trans z.2.1, a.2.2.2.2.2.2.2.2.2.2.2.2.2.2.2.2.1.trans z.2.2⟩
  · have z := o4 q
    exact ⟨a.1.trans z.1, a.2.2.2.2.2.2.2.2.2.2.2.2.2.2.2.2.2.1.trans z.2.1, a.2.2.2.2.2.2.2.2.2.2.2.2.2.2.2.2.2.2.1.trans z.2.2⟩
  · obtain ⟨z, b, e1, e2, e3, e4, e5⟩ := o5 q
    have c := K b (by omega)
    refine ⟨a.1.trans z, b, a.2.2.2.2.2.2.2.2.2.2.2.2.2.2.2.2.2.2.2.trans e1, e2, c.1.trans e3, by rw [c.2.1]; exact e4, fun i i0 i1 => ?_⟩
    rw [c.2.2.1]
    exact e5 i i0 i1
theorem dvU {kd : Nat → Nat} {q r : Nat} (hq : kd q = 0) (hr : ¬ kd r = 0) {α : Type} {f : Nat → α} {v : α} : va_up f q v r = f r := va_up_ne _ _ (fun e => hr (by rw [e]; exact hq))
theorem dv_w8m {x : Int} : (-128 ≤ w8 x ∧ w8 x < 128) ∧ w8 x % 256 = x % 256 := by
  unfold w8
  rw [Int.bmod_def]
  split <;> omega
/-- a reading ahead of the test of its end: fault, place, one, two, how many bytes, bytes -/
noncomputable def dvRw (tp : Int → Int) (sz kind : Int) : Int × Int × Int × Int × Int × (Int → Int) :=
  if kind = 3 then ((dvTr tp sz 0).1, (dvTr tp sz 0).2.1, (dvTr tp sz 0).2.2, 0, 0, (fun _ => 0))
  else if kind = 4 then ((dvDt tp sz).1, (dvDt tp sz).2.1, (dvDt tp sz).2.2.1, (dvDt tp sz).2.2.2, 0, (fun _ => 0))
  else if kind = 5 then ((dvIn tp sz 0).1, (dvIn tp sz 0).2.1, (dvIn tp sz 0).2.2.1, (dvIn tp sz 0).2.2.2, 0, (fun _ => 0))
  else if kind = 6 then ((dvSn tp sz 0).1, (dvSn tp sz 0).2.1, (dvSn tp sz 0).2.2.1, (dvSn tp sz 0).2.2.2, 0, (fun _ => 0))
  else if kind = 7 then ((dvHx tp sz 33 0 0 (fun _ => 0)).1, (dvHx tp sz 33 0 0 (fun _ => 0)).2.1, 0, 0, (dvHx tp sz 33 0 0 (fun _ => 0)).2.2.1, (dvHx tp sz 33 0 0 (fun _ => 0)).2.2.2)
  else if kind = 8 then ((dvBs tp sz 17 0 0 (fun _ => 0)).1, (dvBs tp sz 17 0 0 (fun _ => 0)).2.1, 0, 0, (dvBs tp sz 17 0 0 (fun _ => 0)).2.2.1, (dvBs tp sz 17 0 0 (fun _ => 0)).2.2.2)
  else ((dvNu tp sz kind 0).1, (dvNu tp sz kind 0).2.1, (dvNu tp sz kind 0).2.2.1, (dvNu tp sz kind 0).2.2.2, 0, (fun _ => 0))
theorem dvRv_w {tp : Int → Int} {sz kind : Int} : dvRv tp sz kind = dvFn sz (dvRw tp sz kind).1 (dvRw tp sz kind).2.1 (dvRw tp sz kind).2.2.1 (dvRw tp sz kind).2.2.2.1 (dvRw tp sz kind).2.2.2.2.1 (dvRw tp sz kind).2.2.2.2.2 := by
  unfold dvRv dvRw
  repeat' split
  all_goals rfl
section
variable {tp row : Int → Int} {sz a n : Int}
theorem dvBy_hx (hT : dvT tp) : ∀ (f : Nat) (a n : Int) (row : Int → Int), (0 ≤ n ∧ n ≤ 20) → dvBy n row → (0 ≤ (dvHx tp sz f a n row).2.2.1 ∧ (dvHx tp sz f a n row).2.2.1 ≤ 20) ∧ dvBy (dvHx tp sz f a n row).2.2.1 (dvHx tp sz f a n row).2.2.2
  | 0, a, n, row, hn, hb => ⟨hn, hb⟩
  | f + 1, a, n, row, hn, hb => by
    have b1 := dvHv_b (tp := tp) (sz := sz) (at_ := a) hT
    have b2 := dvHv_b (tp := tp) (sz := sz) (at_ := a + 1) hT
    rw [dvHx]
    by_cases c1 : sz ≤ a
    · rw [if_pos c1]; exact ⟨hn, hb⟩
    rw [if_neg c1]
    by_cases c2 : 20 ≤ n
    · rw [if_pos c2]; exact ⟨by dsimp only; omega, fun k k0 k1 => by dsimp only at k1; omega⟩
    rw [if_neg c2]
    by_cases c3 : dvHv (dvH tp sz a) < 0
    · rw [if_pos c3]; exact ⟨by dsimp only; omega, fun k k0 k1 => by dsimp only at k1; omega⟩
    rw [if_neg c3]
    by_cases c4 : dvHv (dvH tp sz (a + 1)) < 0
    · rw [if_pos c4]; exact ⟨by dsimp only; omega, fun k k0 k1 => by dsimp only at k1; omega⟩
    rw [if_neg c4]
    exact dvBy_hx hT f (a + 2) (n + 1) _ (by omega) (dvBy_u hb (by omega))
theorem dvA_hx : ∀ (f : Nat) (a n : Int) (row : Int → Int) (A : Int), 0 ≤ a → a + 2 * f ≤ A → 0 ≤ (dvHx tp sz f a n row).2.1 ∧ (dvHx tp sz f a n row).2.1 ≤ A
  | 0, a, n, row, A, ha, h => ⟨ha, by show a ≤ A; omega⟩
  | f + 1, a, n, row, A, ha, h => by
    have zz : (0 : Int) ≤ 0 ∧ (0 : Int) ≤ A := by omega
    rw [dvHx]
    by_cases c1 : sz ≤ a
    · rw [if_pos c1]; exact ⟨ha, by show a ≤ A; omega⟩
    rw [if_neg c1]
    by_cases c2 : 20 ≤ n
    · rw [if_pos c2]; exact zz
    rw [if_neg c2]
    by_cases c3 : dvHv (dvH tp sz a) < 0
    · rw [if_pos c3]; exact zz
    rw [if_neg c3]
    by_cases c4 : dvHv (dvH tp sz (a + 1)) < 0
    · rw [if_pos c4]; exact zz
    rw [if_neg c4]
    exact dvA_hx f (a + 2) (n + 1) _ A (by omega) (by omega)
theorem dvA_bs : ∀ (f : Nat) (a n : Int) (row : Int → Int) (A : Int), 0 ≤ a → a + 4 * f ≤ A → 0 ≤ (dvBs tp sz f a n row).2.1 ∧ (dvBs tp sz f a n row).2.1 ≤ A
  | 0, a, n, row, A, ha, h => ⟨ha, by show a ≤ A; omega⟩
  | f + 1, a, n, row, A, ha, h => by
    have zz : (0 : Int) ≤ 0 ∧ (0 : Int) ≤ A := by omega
    have z : ∀ r : Int × Int × Int × (Int → Int), r.2.1 = 0 ∨ r.2.1 = a + 4 → 0 ≤ r.2.1 ∧ r.2.1 ≤ A := fun r e => by omega
    rw [dvBs]
    by_cases c1 : sz ≤ a
    · rw [if_pos c1]; exact ⟨ha, by show a ≤ A; omega⟩
    rw [if_neg c1]
    by_cases c2 : dvSx (dvH tp sz a) < 0
    · rw [if_pos c2]; exact zz
    rw [if_neg c2]
    by_cases c3 : dvSx (dvH tp sz (a + 1)) < 0
    · rw [if_pos c3]; exact zz
    rw [if_neg c3]
    by_cases c4 : dvH tp sz (a + 2) = 61
    · rw [if_pos c4]
      by_cases c5 : ¬ dvSx (dvH tp sz (a + 1)) % 16 = 0
      · rw [if_pos c5]; exact zz
      rw [if_neg c5]
      by_cases c6 : dvH tp sz (a + 3) = 61
      · rw [if_pos c6]; exact z _ (Or.inr rfl)
      · rw [if_neg c6]; exact zz
    rw [if_neg c4]
    by_cases c5 : dvSx (dvH tp sz (a + 2)) < 0
    · rw [if_pos c5]; exact zz
    rw [if_neg c5]
    by_cases c6 : ¬ (n + 2 < 20 ∨ dvSx (dvH tp sz (a + 2)) % 4 = 0)
    · rw [if_pos c6]; exact zz
    rw [if_neg c6]
    by_cases c7 : dvH tp sz (a + 3) = 61
    · rw [if_pos c7]
      by_cases c8 : dvSx (dvH tp sz (a + 2)) % 4 = 0
      · rw [if_pos c8]; exact z _ (Or.inr rfl)
      · rw [if_neg c8]; exact zz
    rw [if_neg c7]
    by_cases c8 : 20 ≤ n + 2
    · rw [if_pos c8]; exact zz
    rw [if_neg c8]
    by_cases c9 : dvSx (dvH tp sz (a + 3)) < 0
    · rw [if_pos c9]; exact zz
    rw [if_neg c9]
    exact dvA_bs f (a + 4) (n + 3) _ A (by omega) (by omega)
theorem dvBy_0 {a : Int} {row : Int → Int} : (0 ≤ (0 : Int) ∧ (0 : Int) ≤ 20) ∧ dvBy 0 row := ⟨by decide, fun k k0 k1 => by omega⟩
theorem dvBy_bs : ∀ (f : Nat) (a n : Int) (row : Int → Int), ((0 ≤ n ∧ n ≤ 18) ∧ n % 3 = 0) → dvBy n row → (0 ≤ (dvBs tp sz f a n row).2.2.1 ∧ (dvBs tp sz f a n row).2.2.1 ≤ 20) ∧ dvBy (dvBs tp sz f a n row).2.2.1 (dvBs tp sz f a n row).2.2.2
  | 0, a, n, row, hn, hb => ⟨by show 0 ≤ n ∧ n ≤ 20; omega, hb⟩
  | f + 1, a, n, row, hn, hb => by
    have b1 := dvSx_b (b := dvH tp sz a)
    have b2 := dvSx_b (b := dvH tp sz (a + 1))
    have b3 := dvSx_b (b := dvH tp sz (a + 2))
    have b4 := dvSx_b (b := dvH tp sz (a + 3))
    rw [dvBs]
    generalize dvSx (dvH tp sz a) = s1 at b1 ⊢
    generalize dvSx (dvH tp sz (a + 1)) = s2 at b2 ⊢
    generalize dvSx (dvH tp sz (a + 2)) = s3 at b3 ⊢
    generalize dvSx (dvH tp sz (a + 3)) = s4 at b4 ⊢
    by_cases c1 : sz ≤ a
    · rw [if_pos c1]; exact ⟨by show 0 ≤ n ∧ n ≤ 20; omega, hb⟩
    rw [if_neg c1]
    by_cases c2 : s1 < 0
    · rw [if_pos c2]; exact dvBy_0 (a := a)
    rw [if_neg c2]
    by_cases c3 : s2 < 0
    · rw [if_pos c3]; exact dvBy_0 (a := a)
    rw [if_neg c3]
    have u1 := dvBy_u (v := 4 * s1 + s2 / 16) hb (by omega)
    by_cases c4 : dvH tp sz (a + 2) = 61
    · rw [if_pos c4]
      by_cases c5 : ¬ s2 % 16 = 0
      · rw [if_pos c5]; exact dvBy_0 (a := a)
      rw [if_neg c5]
      by_cases c6 : dvH tp sz (a + 3) = 61
      · rw [if_pos c6]; exact ⟨by show 0 ≤ n + 1 ∧ n + 1 ≤ 20; omega, u1⟩
      · rw [if_neg c6]; exact dvBy_0 (a := a)
    rw [if_neg c4]
    by_cases c5 : s3 < 0
    · rw [if_pos c5]; exact dvBy_0 (a := a)
    rw [if_neg c5]
    by_cases c6 : ¬ (n + 2 < 20 ∨ s3 % 4 = 0)
    · rw [if_pos c6]; exact dvBy_0 (a := a)
    rw [if_neg c6]
    have u2 := dvBy_u (v := s2 % 16 * 16 + s3 / 4) u1 (by omega)
    rw [show n + 1 + 1 = n + 2 by omega] at u2
    by_cases c7 : dvH tp sz (a + 3) = 61
    · rw [if_pos c7]
      by_cases c8 : s3 % 4 = 0
      · rw [if_pos c8]; exact ⟨by show 0 ≤ n + 2 ∧ n + 2 ≤ 20; omega, u2⟩
      · rw [if_neg c8]; exact dvBy_0 (a := a)
    rw [if_neg c7]
    by_cases c8 : 20 ≤ n + 2
    · rw [if_pos c8]; exact dvBy_0 (a := a)
    rw [if_neg c8]
    by_cases c9 : s4 < 0
    · rw [if_pos c9]; exact dvBy_0 (a := a)
    rw [if_neg c9]
    have u3 := dvBy_u (v := s3 % 4 * 64 + s4) u2 (by omega)
    rw [show n + 2 + 1 = n + 3 by omega] at u3
    exact dvBy_bs f (a + 4) (n + 3) _ (by omega) u3
end
theorem dvFn_s {sz f a one two n N : Int} {row : Int → Int} (h1 : f ≤ N) (h2 : a ≤ N) (h3 : -1 ≤ N) : (dvFn sz f a one two n row).1 ≤ N := by
  unfold dvFn
  split
  · exact h1
  · split
    · exact h3
    · exact h2
theorem dvRv_s {tp : Int → Int} {sz kind : Int} : (dvRv tp sz kind).1 ≤ 10000 := by
  have z0 : (0 : Int) ≤ 100 := by decide
  have m1 : (-1 : Int) ≤ 10000 := by decide
  unfold dvRv
  split
  · have Q := dvQ_tr (tp := tp) (sz := sz) z0
    exact dvFn_s (by have := Q.1; omega) (by have := Q.2; omega) m1
  split
  · have Q := dvQ_dy (tp := tp) (sz := sz) z0
    have Q2 := dvQ_zn (tp := tp) (sz := sz) (at_ := (dvDy tp sz 0).2.1) (by have := Q.2; omega)
    have q1 := Q.1
    have r1 := Q2.1
    have r2 := Q2.2
    refine dvFn_s ?_ ?_ m1
    · unfold dvDt dvB4
      split
      · show (dvDy tp sz 0).1 ≤ 10000; omega
      · show (dvIz tp sz (86400000 * (dvDy tp sz 0).2.2) (dvDy tp sz 0).2.1).1 ≤ 10000
        unfold dvIz
        split
        · show (dvZn tp sz (dvDy tp sz 0).2.1).1 ≤ 10000; omega
        · exact m1
    · unfold dvDt dvB4
      split
      · show (0 : Int) ≤ 10000; omega
      · show (dvIz tp sz (86400000 * (dvDy tp sz 0).2.2) (dvDy tp sz 0).2.1).2.1 ≤ 10000
        unfold dvIz
        split
        · show (0 : Int) ≤ 10000; omega
        · show (dvZn tp sz (dvDy tp sz 0).2.1).2.1 ≤ 10000; omega
  split
  · have Q := dvQ_in (tp := tp) (sz := sz) z0
    exact dvFn_s (by have := Q.1; omega) (by have := Q.2; omega) m1
  split
  · have Q := dvQ_sn (tp := tp) (sz := sz) z0
    exact dvFn_s (by have := Q.1; omega) (by have := Q.2; omega) m1
  split
  · have Q := dvQ_hx (tp := tp) (sz := sz) 33 0 0 (fun _ => 0) 0 (by decide) (by decide)
    have A := dvA_hx (tp := tp) (sz := sz) 33 0 0 (fun _ => 0) 66 (by decide) (by decide)
    exact dvFn_s (by omega) (by omega) m1
  split
  · have Q := dvQ_bs (tp := tp) (sz := sz) 17 0 0 (fun _ => 0) 0 (by decide) (by decide)
    have A := dvA_bs (tp := tp) (sz := sz) 17 0 0 (fun _ => 0) 68 (by decide) (by decide)
    exact dvFn_s (by omega) (by omega) m1
  · have Q := dvQ_nu (tp := tp) (sz := sz) (kind := kind) z0
    exact dvFn_s (by have := Q.1; omega) (by have := Q.2; omega) m1
section
variable {kd : Nat → Nat} {an : Nat → Nat} {ai : Nat → Int → Int} {al : Nat → Int → Int} {ar : Nat → Int → Option Nat} {mX6_tape : Nat → Option Nat} {mX6_size : Nat → Int} {mX6_values : Nat → Option Nat} {mX6_count : Nat → Int} {mX6_writer : Nat → Option Nat} {mX7_bytes : Nat → Option Nat} {mX7_size : Nat → Int} {mX67_tape : Nat → Option Nat} {mX67_size : Nat → Int} {mX67_at : Nat → Int} {mX67_wrong : Nat → Option Nat} {mX67_place : Nat → Int} {mX68_kind : Nat → Int} {mX69_upper : Nat → Int} {mX69_lower : Nat → Int} {mX70_is : Nat → Int} {mX72_millis : Nat → Int} {mX72_zone : Nat → Int} {mX73_months : Nat → Int} {mX73_millis : Nat → Int} {mX74_bytes : Nat → Option Nat} {sa : Nat → Nat} {so : kSo} {p qt qw : Nat} {tp : Int → Int} {sz kind : Int} {MC MS : Nat}
/-- a value comes to be at a fresh place -/
theorem dvKp.n1 {q K : Nat} (hq : kd q = 0) {f0 f1 f2 : Int} : dvKp (kd, an, ai, al, ar, mX6_tape, mX6_size, mX6_values, mX6_count, mX6_writer, mX7_bytes, mX7_size, mX67_tape, mX67_size, mX67_at, mX67_wrong, mX67_place, mX68_kind, mX69_upper, mX69_lower, mX70_is, mX72_millis, mX72_zone, mX73_months, mX73_millis, mX74_bytes) ((va_up kd q K), an, ai, al, ar, mX6_tape, mX6_size, mX6_values, mX6_count, mX6_writer, mX7_bytes, mX7_size, mX67_tape, mX67_size, mX67_at, mX67_wrong, mX67_place, (va_up mX68_kind q f0), (va_up mX69_upper q f1), (va_up mX69_lower q f2), mX70_is, mX72_millis, mX72_zone, mX73_months, mX73_millis, mX74_bytes) := fun r hr => by
  have u := @dvU kd q r hq hr
  dsimp only [HpDV.kd, HpDV.an, HpDV.ai, HpDV.al, HpDV.ar, HpDV.mX6_tape, HpDV.mX6_size, HpDV.mX6_values, HpDV.mX6_count, HpDV.mX6_writer, HpDV.mX7_bytes, HpDV.mX7_size, HpDV.mX67_tape, HpDV.mX67_size, HpDV.mX67_at, HpDV.mX67_wrong, HpDV.mX67_place, HpDV.mX68_kind, HpDV.mX69_upper, HpDV.mX69_lower, HpDV.mX70_is, HpDV.mX72_millis, HpDV.mX72_zone, HpDV.mX73_months, HpDV.mX73_millis, HpDV.mX74_bytes]
  simp only [u, and_self]
theorem dvKp.n2 {q K : Nat} (hq : kd q = 0) {f0 f1 : Int} : dvKp (kd, an, ai, al, ar, mX6_tape, mX6_size, mX6_values, mX6_count, mX6_writer, mX7_bytes, mX7_size, mX67_tape, mX67_size, mX67_at, mX67_wrong, mX67_place, mX68_kind, mX69_upper, mX69_lower, mX70_is, mX72_millis, mX72_zone, mX73_months, mX73_millis, mX74_bytes) ((va_up kd q K), an, ai, al, ar, mX6_tape, mX6_size, mX6_values, mX6_count, mX6_writer, mX7_bytes, mX7_size, mX67_tape, mX67_size, mX67_at, mX67_wrong, mX67_place, (va_up mX68_kind q f0), mX69_upper, mX69_lower, (va_up mX70_is q f1), mX72_millis, mX72_zone, mX73_months, mX73_millis, mX74_bytes) := fun r hr => by
  have u := @dvU kd q r hq hr
  dsimp only [HpDV.kd, HpDV.an, HpDV.ai, HpDV.al, HpDV.ar, HpDV.mX6_tape, HpDV.mX6_size, HpDV.mX6_values, HpDV.mX6_count, HpDV.mX6_writer, HpDV.mX7_bytes, HpDV.mX7_size, HpDV.mX67_tape, HpDV.mX67_size, HpDV.mX67_at, HpDV.mX67_wrong, HpDV.mX67_place, HpDV.mX68_kind, HpDV.mX69_upper, HpDV.mX69_lower, HpDV.mX70_is, HpDV.mX72_millis, HpDV.mX72_zone, HpDV.mX73_months, HpDV.mX73_millis, HpDV.mX74_bytes]
  simp only [u, and_self]
theorem dvKp.n3 {q K : Nat} (hq : kd q = 0) {f0 f1 f2 : Int} : dvKp (kd, an, ai, al, ar, mX6_tape, mX6_size, mX6_values, mX6_count, mX6_writer, mX7_bytes, mX7_size, mX67_tape, mX67_size, mX67_at, mX67_wrong, mX67_place, mX68_kind, mX69_upper, mX69_lower, mX70_is, mX72_millis, mX72_zone, mX73_months, mX73_millis, mX74_bytes) ((va_up kd q K), an, ai, al, ar, mX6_tape, mX6_size, mX6_values, mX6_count, mX6_writer, mX7_bytes, mX7_size, mX67_tape, mX67_size, mX67_at, mX67_wrong, mX67_place, (va_up mX68_kind q f0), mX69_upper, mX69_lower, mX70_is, (va_up mX72_millis q f1), (va_up mX72_zone q f2), mX73_months, mX73_millis, mX74_bytes) := fun r hr => by
  have u := @dvU kd q r hq hr
  dsimp only [HpDV.kd, HpDV.an, HpDV.ai, HpDV.al, HpDV.ar, HpDV.mX6_tape, HpDV.mX6_size, HpDV.mX6_values, HpDV.mX6_count, HpDV.mX6_writer, HpDV.mX7_bytes, HpDV.mX7_size, HpDV.mX67_tape, HpDV.mX67_size, HpDV.mX67_at, HpDV.mX67_wrong, HpDV.mX67_place, HpDV.mX68_kind, HpDV.mX69_upper, HpDV.mX69_lower, HpDV.mX70_is, HpDV.mX72_millis, HpDV.mX72_zone, HpDV.mX73_months, HpDV.mX73_millis, HpDV.mX74_bytes]
  simp only [u, and_self]
theorem dvKp.n4 {q K : Nat} (hq : kd q = 0) {f0 f1 f2 : Int} : dvKp (kd, an, ai, al, ar, mX6_tape, mX6_size, mX6_values, mX6_count, mX6_writer, mX7_bytes, mX7_size, mX67_tape, mX67_size, mX67_at, mX67_wrong, mX67_place, mX68_kind, mX69_upper, mX69_lower, mX70_is, mX72_millis, mX72_zone, mX73_months, mX73_millis, mX74_bytes) ((va_up kd q K), an, ai, al, ar, mX6_tape, mX6_size, mX6_values, mX6_count, mX6_writer, mX7_bytes, mX7_size, mX67_tape, mX67_size, mX67_at, mX67_wrong, mX67_place, (va_up mX68_kind q f0), mX69_upper, mX69_lower, mX70_is, mX72_millis, mX72_zone, (va_up mX73_months q f1), (va_up mX73_millis q f2), mX74_bytes) := fun r hr => by
  have u := @dvU kd q r hq hr
  dsimp only [HpDV.kd, HpDV.an, HpDV.ai, HpDV.al, HpDV.ar, HpDV.mX6_tape, HpDV.mX6_size, HpDV.mX6_values, HpDV.mX6_count, HpDV.mX6_writer, HpDV.mX7_bytes, HpDV.mX7_size, HpDV.mX67_tape, HpDV.mX67_size, HpDV.mX67_at, HpDV.mX67_wrong, HpDV.mX67_place, HpDV.mX68_kind, HpDV.mX69_upper, HpDV.mX69_lower, HpDV.mX70_is, HpDV.mX72_millis, HpDV.mX72_zone, HpDV.mX73_months, HpDV.mX73_millis, HpDV.mX74_bytes]
  simp only [u, and_self]
theorem dvKp.n5 {q1 q2 q3 n1 n3 : Nat} {f f3 : Int → Int} (h1 : kd q1 = 0) (h2 : va_up kd q1 10 q2 = 0) (h3 : va_up (va_up kd q1 10) q2 8 q3 = 0) {f0 : Int} : dvKp (kd, an, ai, al, ar, mX6_tape, mX6_size, mX6_values, mX6_count, mX6_writer, mX7_bytes, mX7_size, mX67_tape, mX67_size, mX67_at, mX67_wrong, mX67_place, mX68_kind, mX69_upper, mX69_lower, mX70_is, mX72_millis, mX72_zone, mX73_months, mX73_millis, mX74_bytes) ((va_up (va_up (va_up kd q1 10) q2 8) q3 10), (va_up (va_up an q1 n1) q3 n3), (va_up (va_up ai q1 f) q3 f3), al, ar, mX6_tape, mX6_size, mX6_values, mX6_count, mX6_writer, mX7_bytes, mX7_size, mX67_tape, mX67_size, mX67_at, mX67_wrong, mX67_place, (va_up mX68_kind q2 f0), mX69_upper, mX69_lower, mX70_is, mX72_millis, mX72_zone, mX73_months, mX73_millis, (va_up mX74_bytes q2 (some q3))) := fun r hr => by
  have k2 : kd q2 = 0 := by
    by_cases e : q2 = q1
    · rw [e]; exact h1
    · rw [va_up_ne _ _ e] at h2; exact h2
  have k3 : kd q3 = 0 := by
    by_cases e : q3 = q2
    · rw [e]; exact k2
    · rw [va_up_ne _ _ e] at h3
      by_cases e : q3 = q1
      · rw [e]; exact h1
      · rw [va_up_ne _ _ e] at h3; exact h3
  have u1 := @dvU kd q1 r h1 hr
  have u2 := @dvU kd q2 r k2 hr
  have u3 := @dvU kd q3 r k3 hr
  dsimp only [HpDV.kd, HpDV.an, HpDV.ai, HpDV.al, HpDV.ar, HpDV.mX6_tape, HpDV.mX6_size, HpDV.mX6_values, HpDV.mX6_count, HpDV.mX6_writer, HpDV.mX7_bytes, HpDV.mX7_size, HpDV.mX67_tape, HpDV.mX67_size, HpDV.mX67_at, HpDV.mX67_wrong, HpDV.mX67_place, HpDV.mX68_kind, HpDV.mX69_upper, HpDV.mX69_lower, HpDV.mX70_is, HpDV.mX72_millis, HpDV.mX72_zone, HpDV.mX73_months, HpDV.mX73_millis, HpDV.mX74_bytes]
  simp only [u1, u2, u3, and_self]
theorem dvKp.n6 {q1 n1 : Nat} {f : Int → Int} (h1 : kd q1 = 0) : dvKp (kd, an, ai, al, ar, mX6_tape, mX6_size, mX6_values, mX6_count, mX6_writer, mX7_bytes, mX7_size, mX67_tape, mX67_size, mX67_at, mX67_wrong, mX67_place, mX68_kind, mX69_upper, mX69_lower, mX70_is, mX72_millis, mX72_zone, mX73_months, mX73_millis, mX74_bytes) ((va_up kd q1 10), (va_up an q1 n1), (va_up ai q1 f), al, ar, mX6_tape, mX6_size, mX6_values, mX6_count, mX6_writer, mX7_bytes, mX7_size, mX67_tape, mX67_size, mX67_at, mX67_wrong, mX67_place, mX68_kind, mX69_upper, mX69_lower, mX70_is, mX72_millis, mX72_zone, mX73_months, mX73_millis, mX74_bytes) := fun r hr => by
  have u1 := @dvU kd q1 r h1 hr
  dsimp only [HpDV.kd, HpDV.an, HpDV.ai, HpDV.al, HpDV.ar, HpDV.mX6_tape, HpDV.mX6_size, HpDV.mX6_values, HpDV.mX6_count, HpDV.mX6_writer, HpDV.mX7_bytes, HpDV.mX7_size, HpDV.mX67_tape, HpDV.mX67_size, HpDV.mX67_at, HpDV.mX67_wrong, HpDV.mX67_place, HpDV.mX68_kind, HpDV.mX69_upper, HpDV.mX69_lower, HpDV.mX70_is, HpDV.mX72_millis, HpDV.mX72_zone, HpDV.mX73_months, HpDV.mX73_millis, HpDV.mX74_bytes]
  simp only [u1, and_self]
theorem dvO.n5 {q1 q2 q3 n1 : Nat} {n : Int} {f row : Int → Int} (h1 : kd q1 = 0) (h2 : va_up kd q1 10 q2 = 0) (h3 : va_up (va_up kd q1 10) q2 8 q3 = 0) (ht : ¬ kd qt = 0) (hw : ¬ kd qw = 0) (hk : 6 < kind ∧ kind ≤ 8) (hn : 0 ≤ n ∧ n ≤ 20) (hf : ∀ k, 0 ≤ k → k < n → f k = w8 (row k)) (hb : dvBy n row) {two : Int} : dvO ((va_up (va_up (va_up kd q1 10) q2 8) q3 10), (va_up (va_up an q1 n1) q3 n.toNat), (va_up (va_up ai q1 f) q3 (fun k => if 0 ≤ k ∧ k < n then f k else 0)), al, ar, mX6_tape, mX6_size, mX6_values, mX6_count, mX6_writer, mX7_bytes, mX7_size, mX67_tape, mX67_size, mX67_at, mX67_wrong, mX67_place, (va_up mX68_kind q2 kind), mX69_upper, mX69_lower, mX70_is, mX72_millis, mX72_zone, mX73_months, mX73_millis, (va_up mX74_bytes q2 (some q3))) qt qw q2 kind n two row := by
  have e21 : ¬ q2 = q1 := fun e => by rw [e, va_up_self] at h2; exact absurd h2 (by decide)
  have e32 : ¬ q3 = q2 := fun e => by rw [e, va_up_self] at h3; exact absurd h3 (by decide)
  rw [va_up_ne _ _ e32] at h3
  have e31 : ¬ q3 = q1 := fun e => by rw [e, va_up_self] at h3; exact absurd h3 (by decide)
  rw [va_up_ne _ _ e31] at h3
  have z23 : va_up (va_up (va_up kd q1 10) q2 8) q3 10 q2 = 8 := by rw [va_up_ne _ _ (fun e => e32 e.symm), va_up_self]
  unfold dvO
  dsimp only [HpDV.kd, HpDV.an, HpDV.ai, HpDV.al, HpDV.ar, HpDV.mX6_tape, HpDV.mX6_size, HpDV.mX6_values, HpDV.mX6_count, HpDV.mX6_writer, HpDV.mX7_bytes, HpDV.mX7_size, HpDV.mX67_tape, HpDV.mX67_size, HpDV.mX67_at, HpDV.mX67_wrong, HpDV.mX67_place, HpDV.mX68_kind, HpDV.mX69_upper, HpDV.mX69_lower, HpDV.mX70_is, HpDV.mX72_millis, HpDV.mX72_zone, HpDV.mX73_months, HpDV.mX73_millis, HpDV.mX74_bytes]
  refine ⟨va_up_self _ _ _, fun q => by omega, fun q => by omega, fun q => by omega, fun q => by omega, fun _ => ⟨z23, q3, va_up_self _ _ _, ⟨fun e => ht (by rw [← e]; exact h3), fun e => hw (by rw [← e]; exact h3)⟩, va_up_self _ _ _, by rw [va_up_self]; omega, fun i i0 i1 => ?_⟩⟩
  rw [va_up_self, if_pos ⟨i0, i1⟩, hf i i0 i1]
  have w := @dv_w8m (row i)
  have b := hb i i0 i1
  exact ⟨w.1, by rw [w.2]; omega⟩
theorem CDV_value {post : Option Nat → (Nat → Nat) → (Nat → Nat) → (Nat → Int → Int) → (Nat → Int) → (Nat → Int) → (Nat → Int) → (Nat → Int) → (Nat → Int) → (Nat → Int) → (Nat → Int) → (Nat → Int) → (Nat → Int) → (Nat → Int) → (Nat → Option Nat) → Prop} {px : Nat → (Nat → Nat) → (Nat → Nat) → (Nat → Int → Int) → (Nat → Int) → (Nat → Int) → (Nat → Int) → (Nat → Int) → (Nat → Int) → (Nat → Int) → (Nat → Int) → (Nat → Int) → (Nat → Int) → (Nat → Int) → (Nat → Option Nat) → Prop}
    (hT : dvT tp) (hM : 3 ≤ MC ∧ 50 ≤ MS) (hk : 0 ≤ kind ∧ kind ≤ 8) (R : dvR kd an ai mX67_tape mX67_size mX67_wrong sa p qt tp sz) (h : dvG sz 0) (hw : ¬ kd qw = 0) (T1 : txS so (sa 257) (dvWd 1953658213 4)) (T2 : txS so (sa 258) (dvWd 439721161573 5)) (T3 : txS so (sa 259) (dvWd 5852484 3)) (T4 : txS so (sa 260) (dvWd 4738387 3)) (T5 : txS so (sa 261) dvLL)
    (Hx : 0 ≤ (dvRw tp sz kind).1 → ∀ kd' an' ai' a' K' U' L' I' Z' Y' M' N' B', dvKp (kd, an, ai, al, ar, mX6_tape, mX6_size, mX6_values, mX6_count, mX6_writer, mX7_bytes, mX7_size, mX67_tape, mX67_size, mX67_at, mX67_wrong, mX67_place, mX68_kind, mX69_upper, mX69_lower, mX70_is, mX72_millis, mX72_zone, mX73_months, mX73_millis, mX74_bytes) ((kd'), (an'), (ai'), al, ar, mX6_tape, mX6_size, mX6_values, mX6_count, mX6_writer, mX7_bytes, mX7_size, mX67_tape, mX67_size, mX67_at, mX67_wrong, mX67_place, (K'), (U'), (L'), (I'), (Z'), (Y'), (M'), (N'), (B')) → px 2 kd' an' ai' (va_up mX67_at p a') (va_up mX67_place p (dvRw tp sz kind).1) K' U' L' I' Z' Y' M' N' B')
    (Hp : (dvRw tp sz kind).1 = -1 → 0 ≤ (dvRw tp sz kind).2.1 → ∀ q kd' an' ai' K' U' L' I' Z' Y' M' N' B', dvKp (kd, an, ai, al, ar, mX6_tape, mX6_size, mX6_values, mX6_count, mX6_writer, mX7_bytes, mX7_size, mX67_tape, mX67_size, mX67_at, mX67_wrong, mX67_place, mX68_kind, mX69_upper, mX69_lower, mX70_is, mX72_millis, mX72_zone, mX73_months, mX73_millis, mX74_bytes) ((kd'), (an'), (ai'), al, ar, mX6_tape, mX6_size, mX6_values, mX6_count, mX6_writer, mX7_bytes, mX7_size, mX67_tape, mX67_size, mX67_at, mX67_wrong, mX67_place, (K'), (U'), (L'), (I'), (Z'), (Y'), (M'), (N'), (B')) → dvO ((kd'), (an'), (ai'), al, ar, mX6_tape, mX6_size, mX6_values, mX6_count, mX6_writer, mX7_bytes, mX7_size, mX67_tape, mX67_size, mX67_at, mX67_wrong, mX67_place, (K'), (U'), (L'), (I'), (Z'), (Y'), (M'), (N'), (B')) qt qw q kind (if kind ≤ 6 then (dvRw tp sz kind).2.2.1 else (dvRw tp sz kind).2.2.2.2.1) (if kind = 3 ∨ 6 < kind then 0 else (dvRw tp sz kind).2.2.2.1) (dvRw tp sz kind).2.2.2.2.2 → post (some q) kd' an' ai' (va_up mX67_at p (dvRw tp sz kind).2.1) mX67_place K' U' L' I' Z' Y' M' N' B') :
    wpDV_X67_value MC MS post px kd an ai mX67_tape mX67_size (va_up mX67_at p 0) mX67_wrong mX67_place mX68_kind mX69_upper mX69_lower mX70_is mX72_millis mX72_zone mX73_months mX73_millis mX74_bytes sa so p kind := by
  have ht : ¬ kd qt = 0 := by rw [R.1.2.1]; decide
  have m0 : 0 + MC ≤ MC ∧ 0 + MS ≤ MS := by omega
  unfold dvRw at Hx Hp
  unfold wpDV_X67_value
  have num : kind ≤ 2 → ∀ {post' px'}, (∀ q kd' K' U' L', dvKp (kd, an, ai, al, ar, mX6_tape, mX6_size, mX6_values, mX6_count, mX6_writer, mX7_bytes, mX7_size, mX67_tape, mX67_size, mX67_at, mX67_wrong, mX67_place, mX68_kind, mX69_upper, mX69_lower, mX70_is, mX72_millis, mX72_zone, mX73_months, mX73_millis, mX74_bytes) ((kd'), an, ai, al, ar, mX6_tape, mX6_size, mX6_values, mX6_count, mX6_writer, mX7_bytes, mX7_size, mX67_tape, mX67_size, mX67_at, mX67_wrong, mX67_place, (K'), (U'), (L'), mX70_is, mX72_millis, mX72_zone, mX73_months, mX73_millis, mX74_bytes) → dvO ((kd'), an, ai, al, ar, mX6_tape, mX6_size, mX6_values, mX6_count, mX6_writer, mX7_bytes, mX7_size, mX67_tape, mX67_size, mX67_at, mX67_wrong, mX67_place, (K'), (U'), (L'), mX70_is, mX72_millis, mX72_zone, mX73_months, mX73_millis, mX74_bytes) qt qw q kind (dvNu tp sz kind 0).2.2.1 (dvNu tp sz kind 0).2.2.2 (fun _ => 0) → (dvNu tp sz kind 0).1 = -1 → 0 ≤ (dvNu tp sz kind 0).2.1 → post' (some q) kd' (va_up mX67_at p (dvNu tp sz kind 0).2.1) mX67_place K' U' L') → (0 ≤ (dvNu tp sz kind 0).1 → ∀ a, px' 2 kd (va_up mX67_at p a) (va_up mX67_place p (dvNu tp sz kind 0).1) mX68_kind mX69_upper mX69_lower) → wpDV_X67_number MC MS post' px' kd an ai mX67_tape mX67_size (va_up mX67_at p 0) mX67_wrong mX67_place mX68_kind mX69_upper mX69_lower sa p kind := fun k2 {post' px'} G1 G2 => by
    refine CDV_number (by omega) R h ⟨fun e g q hq => G1 q _ _ _ _ (dvKp.n1 hq) ?_ e g.1, G2⟩
    unfold dvO
    dsimp only [HpDV.kd, HpDV.an, HpDV.ai, HpDV.al, HpDV.ar, HpDV.mX6_tape, HpDV.mX6_size, HpDV.mX6_values, HpDV.mX6_count, HpDV.mX6_writer, HpDV.mX7_bytes, HpDV.mX7_size, HpDV.mX67_tape, HpDV.mX67_size, HpDV.mX67_at, HpDV.mX67_wrong, HpDV.mX67_place, HpDV.mX68_kind, HpDV.mX69_upper, HpDV.mX69_lower, HpDV.mX70_is, HpDV.mX72_millis, HpDV.mX72_zone, HpDV.mX73_months, HpDV.mX73_millis, HpDV.mX74_bytes]
    exact ⟨va_up_self _ _ _, fun _ => ⟨va_up_self _ _ _, va_up_self _ _ _, va_up_self _ _ _⟩, fun q => by omega, fun q => by omega, fun q => by omega, fun q => by omega⟩
  have nx : kind ≤ 2 → 0 ≤ (dvNu tp sz kind 0).1 → ∀ a, px 2 kd an ai (va_up mX67_at p a) (va_up mX67_place p (dvNu tp sz kind 0).1) mX68_kind mX69_upper mX69_lower mX70_is mX72_millis mX72_zone mX73_months mX73_millis mX74_bytes := fun k2 z a => by
    rw [if_neg (by omega), if_neg (by omega), if_neg (by omega), if_neg (by omega), if_neg (by omega), if_neg (by omega)] at Hx
    exact Hx z _ _ _ _ _ _ _ _ _ _ _ _ _ dvKp.rfl
  have np : kind ≤ 2 → (dvNu tp sz kind 0).1 = -1 → 0 ≤ (dvNu tp sz kind 0).2.1 → ∀ q kd' K' U' L', dvKp (kd, an, ai, al, ar, mX6_tape, mX6_size, mX6_values, mX6_count, mX6_writer, mX7_bytes, mX7_size, mX67_tape, mX67_size, mX67_at, mX67_wrong, mX67_place, mX68_kind, mX69_upper, mX69_lower, mX70_is, mX72_millis, mX72_zone, mX73_months, mX73_millis, mX74_bytes) ((kd'), an, ai, al, ar, mX6_tape, mX6_size, mX6_values, mX6_count, mX6_writer, mX7_bytes, mX7_size, mX67_tape, mX67_size, mX67_at, mX67_wrong, mX67_place, (K'), (U'), (L'), mX70_is, mX72_millis, mX72_zone, mX73_months, mX73_millis, mX74_bytes) → dvO ((kd'), an, ai, al, ar, mX6_tape, mX6_size, mX6_values, mX6_count, mX6_writer, mX7_bytes, mX7_size, mX67_tape, mX67_size, mX67_at, mX67_wrong, mX67_place, (K'), (U'), (L'), mX70_is, mX72_millis, mX72_zone, mX73_months, mX73_millis, mX74_bytes) qt qw q kind (dvNu tp sz kind 0).2.2.1 (dvNu tp sz kind 0).2.2.2 (fun _ => 0) → post (some q) kd' an ai (va_up mX67_at p (dvNu tp sz kind 0).2.1) mX67_place K' U' L' mX70_is mX72_millis mX72_zone mX73_months mX73_millis mX74_bytes := fun k2 z g q kd' K' U' L' kp o => by
    rw [if_neg (show ¬ kind = 3 by omega), if_neg (show ¬ kind = 4 by omega), if_neg (show ¬ kind = 5 by omega), if_neg (show ¬ kind = 6 by omega), if_neg (show ¬ kind = 7 by omega), if_neg (show ¬ kind = 8 by omega), if_pos (show kind ≤ 6 by omega), if_neg (show ¬ (kind = 3 ∨ 6 < kind) by omega)] at Hp
    exact Hp z g q _ _ _ _ _ _ _ _ _ _ _ _ kp o
  refine ⟨fun k0 => ⟨MC, MS, m0, num (by omega) (fun q kd' K' U' L' kp o z g _ => ⟨m0.1, m0.2, np (by omega) z g q _ _ _ _ kp o⟩) (fun z a _ => nx (by omega) z a)⟩, fun k0 => ⟨fun k1 => ⟨MC, MS, m0, num (by omega) (fun q kd' K' U' L' kp o z g _ => ⟨m0.1, m0.2, np (by omega) z g q _ _ _ _ kp o⟩) (fun z a _ => nx (by omega) z a)⟩, fun k1 => ⟨fun k2 => ⟨MC, MS, m0, num (by omega) (fun q kd' K' U' L' kp o z g _ => ⟨m0.1, m0.2, np (by omega) z g q _ _ _ _ kp o⟩) (fun z a _ => nx (by omega) z a)⟩, fun k2 => ⟨fun k3 => ?_, fun k3 => ⟨fun k4 => ?_, fun k4 => ⟨fun k5 => ?_, fun k5 => ⟨fun k6 => ?_, fun k6 => ⟨fun k7 => ?_, fun k7 => ?_⟩⟩⟩⟩⟩⟩⟩⟩
  · rw [if_pos k3] at Hx Hp
    rw [if_pos (show kind ≤ 6 by omega), if_pos (Or.inl k3)] at Hp
    refine ⟨MC, MS, m0, CDV_truth (by omega) R h T1 T2 ⟨fun e g q hq _ => ⟨m0.1, m0.2, Hp e g.1 q _ _ _ _ _ _ _ _ _ _ _ _ (dvKp.n2 hq) ?_⟩, fun e a _ => Hx e _ _ _ _ _ _ _ _ _ _ _ _ _ dvKp.rfl⟩⟩
    unfold dvO
    dsimp only [HpDV.kd, HpDV.an, HpDV.ai, HpDV.al, HpDV.ar, HpDV.mX6_tape, HpDV.mX6_size, HpDV.mX6_values, HpDV.mX6_count, HpDV.mX6_writer, HpDV.mX7_bytes, HpDV.mX7_size, HpDV.mX67_tape, HpDV.mX67_size, HpDV.mX67_at, HpDV.mX67_wrong, HpDV.mX67_place, HpDV.mX68_kind, HpDV.mX69_upper, HpDV.mX69_lower, HpDV.mX70_is, HpDV.mX72_millis, HpDV.mX72_zone, HpDV.mX73_months, HpDV.mX73_millis, HpDV.mX74_bytes]
    exact ⟨by rw [va_up_self, k3], fun q => by omega, fun _ => ⟨va_up_self _ _ _, va_up_self _ _ _⟩, fun q => by omega, fun q => by omega, fun q => by omega⟩
  · rw [if_neg k3, if_pos k4] at Hx Hp
    rw [if_pos (show kind ≤ 6 by omega), if_neg (show ¬ (kind = 3 ∨ 6 < kind) by omega)] at Hp
    unfold dvDt at Hx Hp
    refine ⟨MC, MS, m0, CDV_date (by omega) R h ⟨fun e g q hq _ => ⟨m0.1, m0.2, Hp e g.1 q _ _ _ _ _ _ _ _ _ _ _ _ (dvKp.n3 hq) ?_⟩, fun e a => ⟨fun _ => Hx e _ _ _ _ _ _ _ _ _ _ _ _ _ dvKp.rfl, fun q hq _ => Hx e _ _ _ _ _ _ _ _ _ _ _ _ _ (dvKp.n3 hq)⟩⟩⟩
    unfold dvO
    dsimp only [HpDV.kd, HpDV.an, HpDV.ai, HpDV.al, HpDV.ar, HpDV.mX6_tape, HpDV.mX6_size, HpDV.mX6_values, HpDV.mX6_count, HpDV.mX6_writer, HpDV.mX7_bytes, HpDV.mX7_size, HpDV.mX67_tape, HpDV.mX67_size, HpDV.mX67_at, HpDV.mX67_wrong, HpDV.mX67_place, HpDV.mX68_kind, HpDV.mX69_upper, HpDV.mX69_lower, HpDV.mX70_is, HpDV.mX72_millis, HpDV.mX72_zone, HpDV.mX73_months, HpDV.mX73_millis, HpDV.mX74_bytes]
    exact ⟨by rw [va_up_self, k4], fun q => by omega, fun q => by omega, fun _ => ⟨va_up_self _ _ _, va_up_self _ _ _, va_up_self _ _ _⟩, fun q => by omega, fun q => by omega⟩
  · rw [if_neg k3, if_neg k4, if_pos k5] at Hx Hp
    rw [if_pos (show kind ≤ 6 by omega), if_neg (show ¬ (kind = 3 ∨ 6 < kind) by omega)] at Hp
    refine ⟨MC, MS, m0, CDV_instant (by omega) R h ⟨fun e g q hq _ => ⟨m0.1, m0.2, Hp e g.1 q _ _ _ _ _ _ _ _ _ _ _ _ (dvKp.n3 hq) ?_⟩, fun e a => ⟨fun _ => Hx e _ _ _ _ _ _ _ _ _ _ _ _ _ dvKp.rfl, fun q hq _ => Hx e _ _ _ _ _ _ _ _ _ _ _ _ _ (dvKp.n3 hq)⟩⟩⟩
    unfold dvO
    dsimp only [HpDV.kd, HpDV.an, HpDV.ai, HpDV.al, HpDV.ar, HpDV.mX6_tape, HpDV.mX6_size, HpDV.mX6_values, HpDV.mX6_count, HpDV.mX6_writer, HpDV.mX7_bytes, HpDV.mX7_size, HpDV.mX67_tape, HpDV.mX67_size, HpDV.mX67_at, HpDV.mX67_wrong, HpDV.mX67_place, HpDV.mX68_kind, HpDV.mX69_upper, HpDV.mX69_lower, HpDV.mX70_is, HpDV.mX72_millis, HpDV.mX72_zone, HpDV.mX73_months, HpDV.mX73_millis, HpDV.mX74_bytes]
    exact ⟨by rw [va_up_self, k5], fun q => by omega, fun q => by omega, fun _ => ⟨va_up_self _ _ _, va_up_self _ _ _, va_up_self _ _ _⟩, fun q => by omega, fun q => by omega⟩
  · rw [if_neg k3, if_neg k4, if_neg k5, if_pos k6] at Hx Hp
    rw [if_pos (show kind ≤ 6 by omega), if_neg (show ¬ (kind = 3 ∨ 6 < kind) by omega)] at Hp
    refine ⟨MC, MS, m0, CDV_span (by omega) R h T3 T4 ⟨fun e g q hq _ => ⟨m0.1, m0.2, Hp e g.1 q _ _ _ _ _ _ _ _ _ _ _ _ (dvKp.n4 hq) ?_⟩, fun e a _ => Hx e _ _ _ _ _ _ _ _ _ _ _ _ _ dvKp.rfl⟩⟩
    unfold dvO
    dsimp only [HpDV.kd, HpDV.an, HpDV.ai, HpDV.al, HpDV.ar, HpDV.mX6_tape, HpDV.mX6_size, HpDV.mX6_values, HpDV.mX6_count, HpDV.mX6_writer, HpDV.mX7_bytes, HpDV.mX7_size, HpDV.mX67_tape, HpDV.mX67_size, HpDV.mX67_at, HpDV.mX67_wrong, HpDV.mX67_place, HpDV.mX68_kind, HpDV.mX69_upper, HpDV.mX69_lower, HpDV.mX70_is, HpDV.mX72_millis, HpDV.mX72_zone, HpDV.mX73_months, HpDV.mX73_millis, HpDV.mX74_bytes]
    exact ⟨by rw [va_up_self, k6], fun q => by omega, fun q => by omega, fun q => by omega, fun _ => ⟨va_up_self _ _ _, va_up_self _ _ _, va_up_self _ _ _⟩, fun q => by omega⟩
  · rw [if_neg k3, if_neg k4, if_neg k5, if_neg k6, if_pos k7] at Hx Hp
    rw [if_neg (show ¬ kind ≤ 6 by omega), if_pos (show kind = 3 ∨ 6 < kind by omega)] at Hp
    refine ⟨MC, MS, m0, CDV_hex hT hM R h ⟨fun e n20 q1 q2 q3 f h1 h2 h3 hf _ => ⟨m0.1, m0.2, Hp e (dvA_hx 33 0 0 _ 66 (by decide) (by decide)).1 q2 _ _ _ _ _ _ _ _ _ _ _ _ (dvKp.n5 h1 h2 h3) ?_⟩, fun e a q1 f h1 _ => Hx e _ _ _ _ _ _ _ _ _ _ _ _ _ (dvKp.n6 h1)⟩⟩
    rw [k7]
    exact dvO.n5 h1 h2 h3 ht hw (by decide) n20 hf (dvBy_hx hT 33 0 0 _ (by decide) (dvBy_0 (a := 0)).2).2
  · have k8 : kind = 8 := by omega
    rw [if_neg k3, if_neg k4, if_neg k5, if_neg k6, if_neg k7, if_pos k8] at Hx Hp
    rw [if_neg (show ¬ kind ≤ 6 by omega), if_pos (show kind = 3 ∨ 6 < kind by omega)] at Hp
    refine ⟨MC, MS, m0, CDV_base hT hM R h T5 ⟨fun e n20 q1 q2 q3 f h1 h2 h3 hf _ => ⟨m0.1, m0.2, Hp e (dvA_bs 17 0 0 _ 68 (by decide) (by decide)).1 q2 _ _ _ _ _ _ _ _ _ _ _ _ (dvKp.n5 h1 h2 h3) ?_⟩, fun e a q1 f h1 _ => Hx e _ _ _ _ _ _ _ _ _ _ _ _ _ (dvKp.n6 h1)⟩⟩
    rw [k8]
    exact dvO.n5 h1 h2 h3 ht hw (by decide) n20 hf (dvBy_bs 17 0 0 _ (by decide) (dvBy_0 (a := 0)).2).2
end

/-! DatatypeValues, the component: the tape is read; the room's state -/
/-- the room x: its tape, its values, its writer; what the reference knows of them -/
def dvC (h : HpDV) (x qt qv wr qw : Nat) (tp : Int → Int) (sz c : Int) (kn on tw bt : Int → Int) (os : Int) (o : Int → Int) : Prop :=
  (h.kd x = 1 ∧ h.mX6_tape x = some qt ∧ h.kd qt = 10 ∧ h.an qt = 64 ∧ h.ai qt = tp ∧ h.mX6_size x = sz) ∧
  (h.mX6_values x = some qv ∧ h.kd qv = 12 ∧ h.an qv = 200 ∧ h.mX6_count x = c) ∧
  (h.mX6_writer x = some wr ∧ dvWz h.kd h.an h.mX7_bytes wr qw ∧ ¬ qw = qt ∧ h.mX7_size wr = os ∧ ∀ i, 0 ≤ i → i < os → h.ai qw i = o i) ∧
  ∀ v, 0 ≤ v → v < c → ∃ r, h.ar qv v = some r ∧ dvO h qt qw r (kn v) (on v) (tw v) (fun k => bt (20 * v + k))
theorem dvC.kp {h g : HpDV} {x qt qv wr qw : Nat} {tp : Int → Int} {sz c : Int} {kn on tw bt : Int → Int} {os : Int} {o : Int → Int} (C : dvC h x qt qv wr qw tp sz c kn on tw bt os o) (V : dvVs c kn on tw bt) (K : dvKp h g) : dvC g x qt qv wr qw tp sz c kn on tw bt os o := by
  obtain ⟨⟨a1, a2, a3, a4, a5, a6⟩, ⟨b1, b2, b3, b4⟩, ⟨c1, ⟨c2, c3, c4, c5⟩, c6, c7, c8⟩, d⟩ := C
  obtain ⟨x0, _, _, _, x4, x5, x6, x7, x8, _⟩ := K x (by omega)
  obtain ⟨t0, t1, t2, _⟩ := K qt (by omega)
  obtain ⟨v0, v1, _, v3, _⟩ := K qv (by omega)
  obtain ⟨w0, _, _, _, _, _, _, _, _, w9, wa, _⟩ := K wr (by omega)
  obtain ⟨q0, q1, q2, _⟩ := K qw (by omega)
  refine ⟨⟨x0.trans a1, x4.trans a2, t0.trans a3, t1.trans a4, t2.trans a5, x5.trans a6⟩, ⟨x6.trans b1, v0.trans b2, v1.trans b3, x7.trans b4⟩, ⟨x8.trans c1, ⟨w9.trans c2, q0.trans c3, q1.trans c4, w0.trans c5⟩, c6, wa.trans c7, fun i i0 i1 => by rw [q2]; exact c8 i i0 i1⟩, fun v v0 v1 => ?_⟩
  obtain ⟨r, e, O⟩ := d v v0 v1
  exact ⟨r, by rw [v3]; exact e, O.kp (V.2 v v0 v1).1.1 K⟩
section
variable {kd : Nat → Nat} {an : Nat → Nat} {ai : Nat → Int → Int} {al : Nat → Int → Int} {ar : Nat → Int → Option Nat} {mX6_tape : Nat → Option Nat} {mX6_size : Nat → Int} {mX6_values : Nat → Option Nat} {mX6_count : Nat → Int} {mX6_writer : Nat → Option Nat} {mX7_bytes : Nat → Option Nat} {mX7_size : Nat → Int} {mX67_tape : Nat → Option Nat} {mX67_size : Nat → Int} {mX67_at : Nat → Int} {mX67_wrong : Nat → Option Nat} {mX67_place : Nat → Int} {mX68_kind : Nat → Int} {mX69_upper : Nat → Int} {mX69_lower : Nat → Int} {mX70_is : Nat → Int} {mX72_millis : Nat → Int} {mX72_zone : Nat → Int} {mX73_months : Nat → Int} {mX73_millis : Nat → Int} {mX74_bytes : Nat → Option Nat} {sa : Nat → Nat} {so : kSo} {p qt qw x qv wr : Nat} {tp kn on tw bt o : Int → Int} {sz kind c os v : Int} {MC MS : Nat}
theorem CDV_rread {post : Option Nat → (Nat → Nat) → (Nat → Nat) → (Nat → Int → Int) → (Nat → Int) → (Nat → Int) → (Nat → Int) → (Nat → Int) → (Nat → Int) → (Nat → Int) → (Nat → Int) → (Nat → Int) → (Nat → Int) → (Nat → Int) → (Nat → Option Nat) → Prop} {px : Nat → (Nat → Nat) → (Nat → Nat) → (Nat → Int → Int) → (Nat → Int) → (Nat → Int) → (Nat → Int) → (Nat → Int) → (Nat → Int) → (Nat → Int) → (Nat → Int) → (Nat → Int) → (Nat → Int) → (Nat → Int) → (Nat → Option Nat) → Prop}
    (hT : dvT tp) (hM : 3 ≤ MC ∧ 50 ≤ MS) (hk : 0 ≤ kind ∧ kind ≤ 8) (R : dvR kd an ai mX67_tape mX67_size mX67_wrong sa p qt tp sz) (h : dvG sz 0) (hw : ¬ kd qw = 0) (T1 : txS so (sa 257) (dvWd 1953658213 4)) (T2 : txS so (sa 258) (dvWd 439721161573 5)) (T3 : txS so (sa 259) (dvWd 5852484 3)) (T4 : txS so (sa 260) (dvWd 4738387 3)) (T5 : txS so (sa 261) dvLL)
    (Hx : 0 ≤ (dvRv tp sz kind).1 → ∀ kd' an' ai' a' K' U' L' I' Z' Y' M' N' B', dvKp (kd, an, ai, al, ar, mX6_tape, mX6_size, mX6_values, mX6_count, mX6_writer, mX7_bytes, mX7_size, mX67_tape, mX67_size, mX67_at, mX67_wrong, mX67_place, mX68_kind, mX69_upper, mX69_lower, mX70_is, mX72_millis, mX72_zone, mX73_months, mX73_millis, mX74_bytes) ((kd'), (an'), (ai'), al, ar, mX6_tape, mX6_size, mX6_values, mX6_count, mX6_writer, mX7_bytes, mX7_size, mX67_tape, mX67_size, mX67_at, mX67_wrong, mX67_place, (K'), (U'), (L'), (I'), (Z'), (Y'), (M'), (N'), (B')) → post none kd' an' ai' (va_up mX67_at p a') (va_up mX67_place p (dvRv tp sz kind).1) K' U' L' I' Z' Y' M' N' B')
    (Hp : (dvRv tp sz kind).1 = -1 → ∀ q kd' an' ai' a' K' U' L' I' Z' Y' M' N' B', dvKp (kd, an, ai, al, ar, mX6_tape, mX6_size, mX6_values, mX6_count, mX6_writer, mX7_bytes, mX7_size, mX67_tape, mX67_size, mX67_at, mX67_wrong, mX67_place, mX68_kind, mX69_upper, mX69_lower, mX70_is, mX72_millis, mX72_zone, mX73_months, mX73_millis, mX74_bytes) ((kd'), (an'), (ai'), al, ar, mX6_tape, mX6_size, mX6_values, mX6_count, mX6_writer, mX7_bytes, mX7_size, mX67_tape, mX67_size, mX67_at, mX67_wrong, mX67_place, (K'), (U'), (L'), (I'), (Z'), (Y'), (M'), (N'), (B')) → dvO ((kd'), (an'), (ai'), al, ar, mX6_tape, mX6_size, mX6_values, mX6_count, mX6_writer, mX7_bytes, mX7_size, mX67_tape, mX67_size, mX67_at, mX67_wrong, mX67_place, (K'), (U'), (L'), (I'), (Z'), (Y'), (M'), (N'), (B')) qt qw q kind (if kind ≤ 6 then (dvRv tp sz kind).2.1 else (dvRv tp sz kind).2.2.2.1) (if kind = 3 ∨ 6 < kind then 0 else (dvRv tp sz kind).2.2.1) (dvRv tp sz kind).2.2.2.2 → post (some q) kd' an' ai' (va_up mX67_at p a') mX67_place K' U' L' I' Z' Y' M' N' B') :
    wpDV_X67_read MC MS post px kd an ai mX67_tape mX67_size (va_up mX67_at p 0) mX67_wrong mX67_place mX68_kind mX69_upper mX69_lower mX70_is mX72_millis mX72_zone mX73_months mX73_millis mX74_bytes sa so p kind := by
  have nl := Nat.zero_le
  unfold wpDV_X67_read
  rw [dvRv_w] at Hx Hp
  refine ⟨MC, MS, by omega, CDV_value (kd := kd) (an := an) (ai := ai) (al := al) (ar := ar) (mX6_tape := mX6_tape) (mX6_size := mX6_size) (mX6_values := mX6_values) (mX6_count := mX6_count) (mX6_writer := mX6_writer) (mX7_bytes := mX7_bytes) (mX7_size := mX7_size) (mX67_tape := mX67_tape) (mX67_size := mX67_size) (mX67_at := mX67_at) (mX67_wrong := mX67_wrong) (mX67_place := mX67_place) (mX68_kind := mX68_kind) (mX69_upper := mX69_upper) (mX69_lower := mX69_lower) (mX70_is := mX70_is) (mX72_millis := mX72_millis) (mX72_zone := mX72_zone) (mX73_months := mX73_months) (mX73_millis := mX73_millis) (mX74_bytes := mX74_bytes) (qw := qw) hT hM hk R h hw T1 T2 T3 T4 T5 (fun e kd' an' ai' a' K' U' L' I' Z' Y' M' N' B' kp _ => ⟨fun q => absurd q (by decide), fun _ => ⟨by omega, by omega, ?_⟩⟩) (fun e h2 q kd' an' ai' K' U' L' I' Z' Y' M' N' B' kp O _ => ⟨fun z => ⟨0, 0, by omega, CDV_need R (fun _ => ⟨by omega, by omega, ?_⟩) (fun w => absurd w (by decide))⟩, fun z => ⟨0, 0, by omega, CDV_need R (fun w => absurd rfl w) (fun _ => ⟨fun q => absurd q (by decide), fun _ => ⟨by omega, by omega, ?_⟩⟩)⟩⟩)⟩
  · rw [dvFn_1.1 e] at Hx
    exact Hx e _ _ _ _ _ _ _ _ _ _ _ _ _ kp
  · rw [va_up_self, R.2.1] at z
    rw [dvFn_1.2.1 e z] at Hp
    exact Hp rfl q _ _ _ _ _ _ _ _ _ _ _ _ _ kp O
  · rw [va_up_self]
    rw [va_up_self, R.2.1] at z
    rw [dvFn_1.2.2 e z] at Hx
    exact Hx h2 _ _ _ _ _ _ _ _ _ _ _ _ _ kp
theorem CDV_keep {r : Option Nat} {post : Int → (Nat → Int → Option Nat) → (Nat → Int) → Prop} (hc : 0 ≤ c ∧ c ≤ 200) (X : mX6_values x = some qv ∧ kd qv = 12 ∧ an qv = 200 ∧ mX6_count x = c) (h0 : r = none → post (-2) ar mX6_count) (h2 : c = 200 → ¬ r = none → post (-3) ar mX6_count)
    (h1 : ∀ q, r = some q → c < 200 → (kd q = 4 ∨ kd q = 5 ∨ kd q = 6 ∨ kd q = 7 ∨ kd q = 8) ∧ post c (va_up ar qv (updI (ar qv) c (some q))) (va_up mX6_count x (c + 1))) : wpDV_X6_keep post kd an ar mX6_values mX6_count x r := by
  obtain ⟨x1, x2, x3, x4⟩ := X
  unfold wpDV_X6_keep
  rw [x4]
  refine ⟨h0, fun q e => ⟨fun z => h2 z (by rw [e]; exact fun w => (nomatch w)), fun z => ?_⟩⟩
  have H := h1 q e (by omega)
  refine kOn_of x1 ⟨x2, by rw [x3]; omega, H.1, fun a ea => ⟨by omega, fun v ev n en => ?_⟩⟩
  rw [en, va_up_self, ea, ev]
  exact ⟨by omega, by rw [show c + 1 - 1 = c by omega]; exact H.2⟩
theorem dvO.row {h : HpDV} {r : Nat} {k one two : Int} {row row' : Int → Int} (O : dvO h qt qw r k one two row) (e : 6 < k → ∀ i, 0 ≤ i → i < one → row' i = row i) : dvO h qt qw r k one two row' := by
  obtain ⟨o0, o1, o2, o3, o4, o5⟩ := O
  refine ⟨o0, o1, o2, o3, o4, fun q => ?_⟩
  obtain ⟨z, b, e1, e2, e3, e4, e5⟩ := o5 q
  exact ⟨z, b, e1, e2, e3, e4, fun i i0 i1 => ⟨(e5 i i0 i1).1, by rw [e q i i0 i1]; exact (e5 i i0 i1).2⟩⟩
theorem dvC.put {q : Nat} {one two : Int} {row bt' : Int → Int} (C : dvC (kd, an, ai, al, ar, mX6_tape, mX6_size, mX6_values, mX6_count, mX6_writer, mX7_bytes, mX7_size, mX67_tape, mX67_size, mX67_at, mX67_wrong, mX67_place, mX68_kind, mX69_upper, mX69_lower, mX70_is, mX72_millis, mX72_zone, mX73_months, mX73_millis, mX74_bytes) x qt qv wr qw tp sz c kn on tw bt os o) (V : dvVs c kn on tw bt) (hc : c < 200) (O : dvO (kd, an, ai, al, ar, mX6_tape, mX6_size, mX6_values, mX6_count, mX6_writer, mX7_bytes, mX7_size, mX67_tape, mX67_size, mX67_at, mX67_wrong, mX67_place, mX68_kind, mX69_upper, mX69_lower, mX70_is, mX72_millis, mX72_zone, mX73_months, mX73_millis, mX74_bytes) qt qw q kind one two row) (b0 : ∀ i, i < 20 * c → bt' i = bt i) (b1 : 6 < kind → ∀ i, 0 ≤ i → i < one → bt' (20 * c + i) = row i) :
    dvC (kd, an, ai, al, (va_up ar qv (updI (ar qv) c (some q))), mX6_tape, mX6_size, mX6_values, (va_up mX6_count x (c + 1)), mX6_writer, mX7_bytes, mX7_size, mX67_tape, mX67_size, mX67_at, mX67_wrong, mX67_place, mX68_kind, mX69_upper, mX69_lower, mX70_is, mX72_millis, mX72_zone, mX73_months, mX73_millis, mX74_bytes) x qt qv wr qw tp sz (c + 1) (updI kn c kind) (updI on c one) (updI tw c two) bt' os o := by
  refine ⟨C.1, ⟨C.2.1.1, C.2.1.2.1, C.2.1.2.2.1, va_up_self _ _ _⟩, C.2.2.1, fun v v0 v1 => ?_⟩
  by_cases e : v = c
  · rw [e, updI_s, updI_s, updI_s]
    exact ⟨q, by dsimp only [HpDV.kd, HpDV.an, HpDV.ai, HpDV.al, HpDV.ar, HpDV.mX6_tape, HpDV.mX6_size, HpDV.mX6_values, HpDV.mX6_count, HpDV.mX6_writer, HpDV.mX7_bytes, HpDV.mX7_size, HpDV.mX67_tape, HpDV.mX67_size, HpDV.mX67_at, HpDV.mX67_wrong, HpDV.mX67_place, HpDV.mX68_kind, HpDV.mX69_upper, HpDV.mX69_lower, HpDV.mX70_is, HpDV.mX72_millis, HpDV.mX72_zone, HpDV.mX73_months, HpDV.mX73_millis, HpDV.mX74_bytes]; rw [va_up_self, updI_s], O.row b1⟩
  · obtain ⟨r, er, O'⟩ := C.2.2.2 v v0 (by omega)
    have Vv := V.2 v v0 (by omega)
    have Vo := Vv.1
    unfold dvOv at Vo
    rw [updI_n e, updI_n e, updI_n e]
    exact ⟨r, by dsimp only [HpDV.kd, HpDV.an, HpDV.ai, HpDV.al, HpDV.ar, HpDV.mX6_tape, HpDV.mX6_size, HpDV.mX6_values, HpDV.mX6_count, HpDV.mX6_writer, HpDV.mX7_bytes, HpDV.mX7_size, HpDV.mX67_tape, HpDV.mX67_size, HpDV.mX67_at, HpDV.mX67_wrong, HpDV.mX67_place, HpDV.mX68_kind, HpDV.mX69_upper, HpDV.mX69_lower, HpDV.mX70_is, HpDV.mX72_millis, HpDV.mX72_zone, HpDV.mX73_months, HpDV.mX73_millis, HpDV.mX74_bytes] at er ⊢; rw [va_up_self, updI_n e]; exact er, dvO.row O' (fun k6 i i0 i1 => b0 _ (by omega))⟩
theorem dvC.size {z : Int} (C : dvC (kd, an, ai, al, ar, mX6_tape, mX6_size, mX6_values, mX6_count, mX6_writer, mX7_bytes, mX7_size, mX67_tape, mX67_size, mX67_at, mX67_wrong, mX67_place, mX68_kind, mX69_upper, mX69_lower, mX70_is, mX72_millis, mX72_zone, mX73_months, mX73_millis, mX74_bytes) x qt qv wr qw tp sz c kn on tw bt os o) : dvC (kd, an, ai, al, ar, mX6_tape, (va_up mX6_size x z), mX6_values, mX6_count, mX6_writer, mX7_bytes, mX7_size, mX67_tape, mX67_size, mX67_at, mX67_wrong, mX67_place, mX68_kind, mX69_upper, mX69_lower, mX70_is, mX72_millis, mX72_zone, mX73_months, mX73_millis, mX74_bytes) x qt qv wr qw tp z c kn on tw bt os o :=
  ⟨⟨C.1.1, C.1.2.1, C.1.2.2.1, C.1.2.2.2.1, C.1.2.2.2.2.1, va_up_self _ _ _⟩, C.2⟩
/-- the room's state, said of maps -/
def dvCp (kd : Nat → Nat) (an : Nat → Nat) (ai : Nat → Int → Int) (ar : Nat → Int → Option Nat) (mX6_tape : Nat → Option Nat) (mX6_size : Nat → Int) (mX6_values : Nat → Option Nat) (mX6_count : Nat → Int) (mX6_writer : Nat → Option Nat) (mX7_bytes : Nat → Option Nat) (mX7_size : Nat → Int) (mX68_kind : Nat → Int) (mX69_upper : Nat → Int) (mX69_lower : Nat → Int) (mX70_is : Nat → Int) (mX72_millis : Nat → Int) (mX72_zone : Nat → Int) (mX73_months : Nat → Int) (mX73_millis : Nat → Int) (mX74_bytes : Nat → Option Nat) (x qt qv wr qw : Nat) (tp : Int → Int) (sz c : Int) (kn on tw bt : Int → Int) (os : Int) (o : Int → Int) : Prop :=
  (kd x = 1 ∧ mX6_tape x = some qt ∧ kd qt = 10 ∧ an qt = 64 ∧ ai qt = tp ∧ mX6_size x = sz) ∧
  (mX6_values x = some qv ∧ kd qv = 12 ∧ an qv = 200 ∧ mX6_count x = c) ∧
  (mX6_writer x = some wr ∧ dvWz kd an mX7_bytes wr qw ∧ ¬ qw = qt ∧ mX7_size wr = os ∧ ∀ i, 0 ≤ i → i < os → ai qw i = o i) ∧
  ∀ v, 0 ≤ v → v < c → ∃ r, ar qv v = some r ∧ (mX68_kind r = kn v ∧ (kn v ≤ 2 → kd r = 4 ∧ mX69_upper r = on v ∧ mX69_lower r = tw v) ∧ (kn v = 3 → kd r = 5 ∧ mX70_is r = on v) ∧
    (kn v = 4 ∨ kn v = 5 → kd r = 6 ∧ mX72_millis r = on v ∧ mX72_zone r = tw v) ∧ (kn v = 6 → kd r = 7 ∧ mX73_months r = on v ∧ mX73_millis r = tw v) ∧
    (6 < kn v → kd r = 8 ∧ ∃ q, mX74_bytes r = some q ∧ (¬ q = qt ∧ ¬ q = qw) ∧ kd q = 10 ∧ (an q : Int) = on v ∧ ∀ i, 0 ≤ i → i < on v → (-128 ≤ ai q i ∧ ai q i < 128) ∧ ai q i % 256 = bt (20 * v + i)))
theorem dvC.iff : dvC (kd, an, ai, al, ar, mX6_tape, mX6_size, mX6_values, mX6_count, mX6_writer, mX7_bytes, mX7_size, mX67_tape, mX67_size, mX67_at, mX67_wrong, mX67_place, mX68_kind, mX69_upper, mX69_lower, mX70_is, mX72_millis, mX72_zone, mX73_months, mX73_millis, mX74_bytes) x qt qv wr qw tp sz c kn on tw bt os o ↔ dvCp kd an ai ar mX6_tape mX6_size mX6_values mX6_count mX6_writer mX7_bytes mX7_size mX68_kind mX69_upper mX69_lower mX70_is mX72_millis mX72_zone mX73_months mX73_millis mX74_bytes x qt qv wr qw tp sz c kn on tw bt os o := Iff.rfl
theorem dvC.rd {a1 a5 : Nat → Option Nat} {a2 a3 a4 : Nat → Int} (C : dvC (kd, an, ai, al, ar, mX6_tape, mX6_size, mX6_values, mX6_count, mX6_writer, mX7_bytes, mX7_size, mX67_tape, mX67_size, mX67_at, mX67_wrong, mX67_place, mX68_kind, mX69_upper, mX69_lower, mX70_is, mX72_millis, mX72_zone, mX73_months, mX73_millis, mX74_bytes) x qt qv wr qw tp sz c kn on tw bt os o) : dvC (kd, an, ai, al, ar, mX6_tape, mX6_size, mX6_values, mX6_count, mX6_writer, mX7_bytes, mX7_size, a1, a2, a3, a5, a4, mX68_kind, mX69_upper, mX69_lower, mX70_is, mX72_millis, mX72_zone, mX73_months, mX73_millis, mX74_bytes) x qt qv wr qw tp sz c kn on tw bt os o := dvC.iff.2 (dvC.iff.1 C)
theorem dvKp.r {q : Nat} (hq : kd q = 0) {a1 a5 : Nat → Option Nat} {a2 a3 a4 : Nat → Int} : dvKp (kd, an, ai, al, ar, mX6_tape, mX6_size, mX6_values, mX6_count, mX6_writer, mX7_bytes, mX7_size, mX67_tape, mX67_size, mX67_at, mX67_wrong, mX67_place, mX68_kind, mX69_upper, mX69_lower, mX70_is, mX72_millis, mX72_zone, mX73_months, mX73_millis, mX74_bytes) ((va_up kd q 3), an, ai, al, ar, mX6_tape, mX6_size, mX6_values, mX6_count, mX6_writer, mX7_bytes, mX7_size, a1, a2, a3, a5, a4, mX68_kind, mX69_upper, mX69_lower, mX70_is, mX72_millis, mX72_zone, mX73_months, mX73_millis, mX74_bytes) := fun r hr => by
  have u := @dvU kd q r hq hr
  dsimp only [HpDV.kd, HpDV.an, HpDV.ai, HpDV.al, HpDV.ar, HpDV.mX6_tape, HpDV.mX6_size, HpDV.mX6_values, HpDV.mX6_count, HpDV.mX6_writer, HpDV.mX7_bytes, HpDV.mX7_size, HpDV.mX67_tape, HpDV.mX67_size, HpDV.mX67_at, HpDV.mX67_wrong, HpDV.mX67_place, HpDV.mX68_kind, HpDV.mX69_upper, HpDV.mX69_lower, HpDV.mX70_is, HpDV.mX72_millis, HpDV.mX72_zone, HpDV.mX73_months, HpDV.mX73_millis, HpDV.mX74_bytes]
  simp only [u, and_self]
theorem CDV_read {post : Int → (Nat → Nat) → (Nat → Nat) → (Nat → Int → Int) → (Nat → Int → Option Nat) → (Nat → Int) → (Nat → Int) → (Nat → Option Nat) → (Nat → Int) → (Nat → Int) → (Nat → Option Nat) → (Nat → Int) → (Nat → Int) → (Nat → Int) → (Nat → Int) → (Nat → Int) → (Nat → Int) → (Nat → Int) → (Nat → Int) → (Nat → Int) → (Nat → Option Nat) → Prop} {px : Nat → (Nat → Nat) → (Nat → Nat) → (Nat → Int → Int) → (Nat → Int → Option Nat) → (Nat → Int) → (Nat → Int) → (Nat → Option Nat) → (Nat → Int) → (Nat → Int) → (Nat → Option Nat) → (Nat → Int) → (Nat → Int) → (Nat → Int) → (Nat → Int) → (Nat → Int) → (Nat → Int) → (Nat → Int) → (Nat → Int) → (Nat → Int) → (Nat → Option Nat) → Prop}
    (hT : dvT tp) (hM : 5 ≤ MC ∧ 61 ≤ MS) (C : dvC (kd, an, ai, al, ar, mX6_tape, mX6_size, mX6_values, mX6_count, mX6_writer, mX7_bytes, mX7_size, mX67_tape, mX67_size, mX67_at, mX67_wrong, mX67_place, mX68_kind, mX69_upper, mX69_lower, mX70_is, mX72_millis, mX72_zone, mX73_months, mX73_millis, mX74_bytes) x qt qv wr qw tp sz c kn on tw bt os o) (V : dvVs c kn on tw bt) (hsz : 0 ≤ sz ∧ sz ≤ 64) (T1 : txS so (sa 257) (dvWd 1953658213 4)) (T2 : txS so (sa 258) (dvWd 439721161573 5)) (T3 : txS so (sa 259) (dvWd 5852484 3)) (T4 : txS so (sa 260) (dvWd 4738387 3)) (T5 : txS so (sa 261) dvLL)
    (h1 : ¬ (0 ≤ kind ∧ kind ≤ 8) → post (-1) kd an ai ar mX6_size mX6_count mX67_tape mX67_size mX67_at mX67_wrong mX67_place mX68_kind mX69_upper mX69_lower mX70_is mX72_millis mX72_zone mX73_months mX73_millis mX74_bytes)
    (hb : (0 ≤ kind ∧ kind ≤ 8) → 0 ≤ (dvRv tp sz kind).1 → ∀ kd an ai mX6_size mX67_tape mX67_size mX67_at mX67_wrong mX67_place mX68_kind mX69_upper mX69_lower mX70_is mX72_millis mX72_zone mX73_months mX73_millis mX74_bytes, dvC (kd, an, ai, al, ar, mX6_tape, mX6_size, mX6_values, mX6_count, mX6_writer, mX7_bytes, mX7_size, mX67_tape, mX67_size, mX67_at, mX67_wrong, mX67_place, mX68_kind, mX69_upper, mX69_lower, mX70_is, mX72_millis, mX72_zone, mX73_months, mX73_millis, mX74_bytes) x qt qv wr qw tp 0 c kn on tw bt os o → post (-10 - (dvRv tp sz kind).1) kd an ai ar mX6_size mX6_count mX67_tape mX67_size mX67_at mX67_wrong mX67_place mX68_kind mX69_upper mX69_lower mX70_is mX72_millis mX72_zone mX73_months mX73_millis mX74_bytes)
    (h3 : (0 ≤ kind ∧ kind ≤ 8) → (dvRv tp sz kind).1 = -1 → c = 200 → ∀ kd an ai mX6_size mX67_tape mX67_size mX67_at mX67_wrong mX67_place mX68_kind mX69_upper mX69_lower mX70_is mX72_millis mX72_zone mX73_months mX73_millis mX74_bytes, dvC (kd, an, ai, al, ar, mX6_tape, mX6_size, mX6_values, mX6_count, mX6_writer, mX7_bytes, mX7_size, mX67_tape, mX67_size, mX67_at, mX67_wrong, mX67_place, mX68_kind, mX69_upper, mX69_lower, mX70_is, mX72_millis, mX72_zone, mX73_months, mX73_millis, mX74_bytes) x qt qv wr qw tp 0 c kn on tw bt os o → post (-3) kd an ai ar mX6_size mX6_count mX67_tape mX67_size mX67_at mX67_wrong mX67_place mX68_kind mX69_upper mX69_lower mX70_is mX72_millis mX72_zone mX73_months mX73_millis mX74_bytes)
    (h0 : (0 ≤ kind ∧ kind ≤ 8) → (dvRv tp sz kind).1 = -1 → c < 200 → ∀ kd an ai ar mX6_size mX6_count mX67_tape mX67_size mX67_at mX67_wrong mX67_place mX68_kind mX69_upper mX69_lower mX70_is mX72_millis mX72_zone mX73_months mX73_millis mX74_bytes, dvC (kd, an, ai, al, ar, mX6_tape, mX6_size, mX6_values, mX6_count, mX6_writer, mX7_bytes, mX7_size, mX67_tape, mX67_size, mX67_at, mX67_wrong, mX67_place, mX68_kind, mX69_upper, mX69_lower, mX70_is, mX72_millis, mX72_zone, mX73_months, mX73_millis, mX74_bytes) x qt qv wr qw tp 0 (c + 1) (updI kn c kind) (updI on c (if kind ≤ 6 then (dvRv tp sz kind).2.1 else (dvRv tp sz kind).2.2.2.1)) (updI tw c (if kind = 3 ∨ 6 < kind then 0 else (dvRv tp sz kind).2.2.1)) (dvBu bt c (dvRv tp sz kind).2.2.2.1 (dvRv tp sz kind).2.2.2.2) os o → post c kd an ai ar mX6_size mX6_count mX67_tape mX67_size mX67_at mX67_wrong mX67_place mX68_kind mX69_upper mX69_lower mX70_is mX72_millis mX72_zone mX73_months mX73_millis mX74_bytes) :
    wpDV_X6_read MC MS post px kd an ai ar mX6_tape mX6_size mX6_values mX6_count mX67_tape mX67_size mX67_at mX67_wrong mX67_place mX68_kind mX69_upper mX69_lower mX70_is mX72_millis mX72_zone mX73_months mX73_millis mX74_bytes sa so x kind := by
  have nl := Nat.zero_le
  have C0 := C
  obtain ⟨⟨a1, a2, a3, a4, a5, a6⟩, ⟨b1, b2, b3, b4⟩, ⟨c1, ⟨c2, c3, c4, c5⟩, c6, c7, c8⟩, d⟩ := C0
  dsimp only [HpDV.kd, HpDV.an, HpDV.ai, HpDV.al, HpDV.ar, HpDV.mX6_tape, HpDV.mX6_size, HpDV.mX6_values, HpDV.mX6_count, HpDV.mX6_writer, HpDV.mX7_bytes, HpDV.mX7_size, HpDV.mX67_tape, HpDV.mX67_size, HpDV.mX67_at, HpDV.mX67_wrong, HpDV.mX67_place, HpDV.mX68_kind, HpDV.mX69_upper, HpDV.mX69_lower, HpDV.mX70_is, HpDV.mX72_millis, HpDV.mX72_zone, HpDV.mX73_months, HpDV.mX73_millis, HpDV.mX74_bytes] at a1 a2 a3 a4 a5 a6 b1 b2 b3 b4 c1 c2 c3 c4 c5 c7
  unfold wpDV_X6_read
  refine ⟨fun z => ⟨nl _, nl _, h1 (by omega)⟩, fun z => ⟨fun k8 => ⟨by omega, fun q hq t et s es m em w ew pl epl => ⟨1, 6, by omega, ?_⟩⟩, fun k8 => ⟨nl _, nl _, h1 (by omega)⟩⟩⟩
  have hk : 0 ≤ kind ∧ kind ≤ 8 := by omega
  unfold wpDV_X67_init
  refine ⟨by omega, fun w2 ew2 t2 et2 s2 es2 => ⟨by omega, by omega, 3, 50, by omega, ?_⟩⟩
  rw [em]
  have nq : ∀ r, ¬ kd r = 0 → va_up kd q 3 r = kd r := fun r hr => dvU hq hr
  have R : dvR (va_up kd q 3) an ai t2 s2 w2 sa q qt tp sz := ⟨⟨by rw [et2, va_up_self]; exact a2, by rw [nq qt (by omega)]; exact a3, a4, a5⟩, by rw [es2, va_up_self]; exact a6, by rw [ew2, va_up_self], va_up_self _ _ _⟩
  refine CDV_rread (kd := (va_up kd q 3)) (an := an) (ai := ai) (al := al) (ar := ar) (mX6_tape := mX6_tape) (mX6_size := mX6_size) (mX6_values := mX6_values) (mX6_count := mX6_count) (mX6_writer := mX6_writer) (mX7_bytes := mX7_bytes) (mX7_size := mX7_size) (mX67_tape := t2) (mX67_size := s2) (mX67_at := mX67_at) (mX67_wrong := w2) (mX67_place := pl) (mX68_kind := mX68_kind) (mX69_upper := mX69_upper) (mX69_lower := mX69_lower) (mX70_is := mX70_is) (mX72_millis := mX72_millis) (mX72_zone := mX72_zone) (mX73_months := mX73_months) (mX73_millis := mX73_millis) (mX74_bytes := mX74_bytes) (qw := qw) hT (by decide) hk R ⟨by decide, by decide, hsz.2⟩ (by rw [nq qw (by omega)]; omega) T1 T2 T3 T4 T5 (fun e kd' an' ai' a' K' U' L' I' Z' Y' M' N' B' kp _ s6 e6 => ⟨fun _ => ?_, fun b eb => (nomatch eb)⟩) (fun e q' kd' an' ai' a' K' U' L' I' Z' Y' M' N' B' kp O _ s6 e6 => ⟨fun eb => (nomatch eb), fun b eb => ⟨by omega, ?_⟩⟩)
  · subst e6
    have C2 := dvC.size (z := 0) (C.kp V (dvKp.trans (dvKp.r hq) kp))
    rw [va_up_self]
    have Q : (dvRv tp sz kind).1 ≤ 10000 := dvRv_s
    exact ⟨by omega, by omega, by omega, hb hk e _ _ _ _ _ _ _ _ _ _ _ _ _ _ _ _ _ _ (dvC.rd C2)⟩
  · subst e6
    have C2 := C.kp V (dvKp.trans (dvKp.r hq) kp)
    have X2 := C2.2.1
    refine CDV_keep (c := c) V.1 X2 (fun z => (nomatch z)) (fun z _ => ?_) (fun q2 eq cl => ⟨?_, ?_⟩)
    · exact ⟨by omega, by omega, h3 hk e z _ _ _ _ _ _ _ _ _ _ _ _ _ _ _ _ _ _ (dvC.rd (dvC.size (z := 0) C2))⟩
    · cases eq
      exact O.kd hk
    · cases eq
      refine ⟨by omega, by omega, h0 hk e cl _ _ _ _ _ _ _ _ _ _ _ _ _ _ _ _ _ _ _ _ (dvC.rd (dvC.size (z := 0) (dvC.put C2 V cl O (fun i hi => ?_) (fun k6 i i0 i1 => ?_))))⟩
      · unfold dvBu; rw [if_neg (by omega)]
      · rw [if_neg (by omega)] at i1
        unfold dvBu; rw [if_pos (by omega), show 20 * c + i - 20 * c = i by omega]
end

/-! DatatypeValues, the component: what is told of values; compared -/
section
variable {kd : Nat → Nat} {an : Nat → Nat} {ai : Nat → Int → Int} {al : Nat → Int → Int} {ar : Nat → Int → Option Nat} {mX6_tape : Nat → Option Nat} {mX6_size : Nat → Int} {mX6_values : Nat → Option Nat} {mX6_count : Nat → Int} {mX6_writer : Nat → Option Nat} {mX7_bytes : Nat → Option Nat} {mX7_size : Nat → Int} {mX67_tape : Nat → Option Nat} {mX67_size : Nat → Int} {mX67_at : Nat → Int} {mX67_wrong : Nat → Option Nat} {mX67_place : Nat → Int} {mX68_kind : Nat → Int} {mX69_upper : Nat → Int} {mX69_lower : Nat → Int} {mX70_is : Nat → Int} {mX72_millis : Nat → Int} {mX72_zone : Nat → Int} {mX73_months : Nat → Int} {mX73_millis : Nat → Int} {mX74_bytes : Nat → Option Nat} {sa : Nat → Nat} {so : kSo} {qt qw x qv wr r s : Nat} {tp kn on tw bt o row row' : Int → Int} {sz c os v i n k one two k2 one' two' a b X Y : Int} {MC MS kc ks : Nat}
theorem CDV_values {post : Int → Prop} (C : dvC (kd, an, ai, al, ar, mX6_tape, mX6_size, mX6_values, mX6_count, mX6_writer, mX7_bytes, mX7_size, mX67_tape, mX67_size, mX67_at, mX67_wrong, mX67_place, mX68_kind, mX69_upper, mX69_lower, mX70_is, mX72_millis, mX72_zone, mX73_months, mX73_millis, mX74_bytes) x qt qv wr qw tp sz c kn on tw bt os o) (hp : post c) : wpDV_X6_values post mX6_count x := by
  have e : mX6_count x = c := C.2.1.2.2.2
  unfold wpDV_X6_values
  rw [e]; exact hp
theorem CDV_at {post : Option Nat → Prop} (C : dvC (kd, an, ai, al, ar, mX6_tape, mX6_size, mX6_values, mX6_count, mX6_writer, mX7_bytes, mX7_size, mX67_tape, mX67_size, mX67_at, mX67_wrong, mX67_place, mX68_kind, mX69_upper, mX69_lower, mX70_is, mX72_millis, mX72_zone, mX73_months, mX73_millis, mX74_bytes) x qt qv wr qw tp sz c kn on tw bt os o) (hc : c ≤ 200) (h0 : ¬ (0 ≤ v ∧ v < c) → post none) (h1 : 0 ≤ v → v < c → ∀ r, dvO (kd, an, ai, al, ar, mX6_tape, mX6_size, mX6_values, mX6_count, mX6_writer, mX7_bytes, mX7_size, mX67_tape, mX67_size, mX67_at, mX67_wrong, mX67_place, mX68_kind, mX69_upper, mX69_lower, mX70_is, mX72_millis, mX72_zone, mX73_months, mX73_millis, mX74_bytes) qt qw r (kn v) (on v) (tw v) (fun k => bt (20 * v + k)) → post (some r)) : wpDV_X6_at post kd an ar mX6_values mX6_count x v := by
  have x1 : mX6_values x = some qv := C.2.1.1
  have x2 : kd qv = 12 := C.2.1.2.1
  have x3 : an qv = 200 := C.2.1.2.2.1
  have x4 : mX6_count x = c := C.2.1.2.2.2
  unfold wpDV_X6_at
  rw [x4]
  refine ⟨fun z => h0 (by omega), fun z => ⟨fun z2 => h0 (by omega), fun z2 => kOn_of x1 ⟨x2, by rw [x3]; omega, fun q eq => ?_⟩⟩⟩
  obtain ⟨r, er, O⟩ := C.2.2.2 v (by omega) (by omega)
  have er' : ar qv v = some r := er
  rw [eq, er']
  exact h1 (by omega) (by omega) r O
/-- the kinds of an object -/
theorem dvO.cs (O : dvO (kd, an, ai, al, ar, mX6_tape, mX6_size, mX6_values, mX6_count, mX6_writer, mX7_bytes, mX7_size, mX67_tape, mX67_size, mX67_at, mX67_wrong, mX67_place, mX68_kind, mX69_upper, mX69_lower, mX70_is, mX72_millis, mX72_zone, mX73_months, mX73_millis, mX74_bytes) qt qw r k one two row) (hk : 0 ≤ k ∧ k ≤ 8) : mX68_kind r = k ∧ ((k ≤ 2 ∧ kd r = 4 ∧ mX69_upper r = one ∧ mX69_lower r = two) ∨ (k = 3 ∧ kd r = 5 ∧ mX70_is r = one) ∨ ((k = 4 ∨ k = 5) ∧ kd r = 6 ∧ mX72_millis r = one ∧ mX72_zone r = two) ∨ (k = 6 ∧ kd r = 7 ∧ mX73_months r = one ∧ mX73_millis r = two) ∨
    (6 < k ∧ kd r = 8 ∧ ∃ q, mX74_bytes r = some q ∧ (¬ q = qt ∧ ¬ q = qw) ∧ kd q = 10 ∧ (an q : Int) = one ∧ ∀ i, 0 ≤ i → i < one → (-128 ≤ ai q i ∧ ai q i < 128) ∧ ai q i % 256 = row i)) := by
  obtain ⟨o0, o1, o2, o3, o4, o5⟩ := O
  refine ⟨o0, ?_⟩
  by_cases k2 : k ≤ 2
  · exact Or.inl ⟨k2, o1 k2⟩
  by_cases k3 : k = 3
  · exact Or.inr (Or.inl ⟨k3, o2 k3⟩)
  by_cases k4 : k = 4 ∨ k = 5
  · exact Or.inr (Or.inr (Or.inl ⟨k4, o3 k4⟩))
  by_cases k6 : k = 6
  · exact Or.inr (Or.inr (Or.inr (Or.inl ⟨k6, o4 k6⟩)))
  · exact Or.inr (Or.inr (Or.inr (Or.inr ⟨by omega, o5 (by omega)⟩)))
theorem dvO.kd' (O : dvO (kd, an, ai, al, ar, mX6_tape, mX6_size, mX6_values, mX6_count, mX6_writer, mX7_bytes, mX7_size, mX67_tape, mX67_size, mX67_at, mX67_wrong, mX67_place, mX68_kind, mX69_upper, mX69_lower, mX70_is, mX72_millis, mX72_zone, mX73_months, mX73_millis, mX74_bytes) qt qw r k one two row) (hk : 0 ≤ k ∧ k ≤ 8) : kd r = 4 ∨ kd r = 5 ∨ kd r = 6 ∨ kd r = 7 ∨ kd r = 8 := O.kd hk
theorem CDV_kind {post : Int → Prop} (C : dvC (kd, an, ai, al, ar, mX6_tape, mX6_size, mX6_values, mX6_count, mX6_writer, mX7_bytes, mX7_size, mX67_tape, mX67_size, mX67_at, mX67_wrong, mX67_place, mX68_kind, mX69_upper, mX69_lower, mX70_is, mX72_millis, mX72_zone, mX73_months, mX73_millis, mX74_bytes) x qt qv wr qw tp sz c kn on tw bt os o) (V : dvVs c kn on tw bt) (hp : post (if 0 ≤ v ∧ v < c then kn v else -1)) : wpDV_X6_kind post kd an ar mX6_values mX6_count mX68_kind x v := by
  unfold wpDV_X6_kind
  refine CDV_at C V.1.2 (fun q => ⟨fun _ => ?_, fun b e => (nomatch e)⟩) (fun v0 v1 r O => ⟨fun e => (nomatch e), fun r2 e => ?_⟩)
  · rw [if_neg q] at hp; exact hp
  · cases e
    have e1 : mX68_kind r = kn v := O.1
    rw [if_pos ⟨v0, v1⟩] at hp
    exact ⟨O.kd' (V.2 v v0 v1).1.1, by rw [e1]; exact hp⟩
theorem CDV_part {post : Int → Prop} (C : dvC (kd, an, ai, al, ar, mX6_tape, mX6_size, mX6_values, mX6_count, mX6_writer, mX7_bytes, mX7_size, mX67_tape, mX67_size, mX67_at, mX67_wrong, mX67_place, mX68_kind, mX69_upper, mX69_lower, mX70_is, mX72_millis, mX72_zone, mX73_months, mX73_millis, mX74_bytes) x qt qv wr qw tp sz c kn on tw bt os o) (V : dvVs c kn on tw bt) (hp : post (if 0 ≤ v ∧ v < c then (if i = 0 then on v else if i = 1 then tw v else 0) else 0)) : wpDV_X6_part post kd an ar mX6_values mX6_count mX69_upper mX69_lower mX70_is mX72_millis mX72_zone mX73_months mX73_millis mX74_bytes x v i := by
  unfold wpDV_X6_part
  refine CDV_at C V.1.2 (fun q => ⟨fun _ => ?_, fun b e => (nomatch e)⟩) (fun v0 v1 r O => ⟨fun e => (nomatch e), fun r2 e => ?_⟩)
  · rw [if_neg q] at hp; exact hp
  · cases e
    rw [if_pos ⟨v0, v1⟩] at hp
    have Vv := (V.2 v v0 v1).1
    refine ⟨O.kd' Vv.1, ?_⟩
    have two : ∀ p q : Int, p = on v → q = tw v → ((i = 0 → post p) ∧ (¬ i = 0 → ((i = 1 → post q) ∧ (¬ i = 1 → post 0)))) := fun p q ep eq => by
      refine ⟨fun z => ?_, fun z => ⟨fun w => ?_, fun w => ?_⟩⟩
      · rw [if_pos z] at hp; rw [ep]; exact hp
      · rw [if_neg z, if_pos w] at hp; rw [eq]; exact hp
      · rw [if_neg z, if_neg w] at hp; exact hp
    obtain ⟨_, K⟩ := O.cs Vv.1
    unfold dvOv at Vv
    unfold wpDDV_X69_part_4_5_6_7_8
    rcases K with ⟨k, kr, e1, e2⟩ | ⟨k, kr, e1⟩ | ⟨k, kr, e1, e2⟩ | ⟨k, kr, e1, e2⟩ | ⟨k, kr, q, e1, e2, e3, e4, e5⟩
    · exact Or.inl ⟨kr, two _ _ e1 e2⟩
    · refine Or.inr (Or.inl ⟨kr, ?_⟩)
      have V3 := Vv.2.2.1 k
      unfold wpDV_X70_part
      rw [e1]
      refine ⟨fun z => ?_, fun z => ?_⟩
      · rw [if_pos z] at hp
        exact ⟨fun w => by rw [w] at hp; exact hp, fun w => by rw [show on v = 1 by omega] at hp; exact hp⟩
      · rw [if_neg z] at hp
        by_cases w : i = 1
        · rw [if_pos w, V3.2] at hp; exact hp
        · rw [if_neg w] at hp; exact hp
    · exact Or.inr (Or.inr (Or.inl ⟨kr, two _ _ e1 e2⟩))
    · exact Or.inr (Or.inr (Or.inr (Or.inl ⟨kr, two _ _ e1 e2⟩)))
    · refine Or.inr (Or.inr (Or.inr (Or.inr ⟨kr, ?_⟩)))
      have V3 := Vv.2.2.2.2.2 k
      unfold wpDV_X74_part
      refine ⟨fun z => kOn_of e1 ⟨e3, by omega, ?_⟩, fun z => ?_⟩
      · rw [if_pos z] at hp
        rw [e4]; exact hp
      · rw [if_neg z] at hp
        by_cases w : i = 1
        · rw [if_pos w, V3.2] at hp; exact hp
        · rw [if_neg w] at hp; exact hp
theorem CDV_byteOf {post : Int → Prop} (C : dvC (kd, an, ai, al, ar, mX6_tape, mX6_size, mX6_values, mX6_count, mX6_writer, mX7_bytes, mX7_size, mX67_tape, mX67_size, mX67_at, mX67_wrong, mX67_place, mX68_kind, mX69_upper, mX69_lower, mX70_is, mX72_millis, mX72_zone, mX73_months, mX73_millis, mX74_bytes) x qt qv wr qw tp sz c kn on tw bt os o) (V : dvVs c kn on tw bt) (hp : post (if (0 ≤ v ∧ v < c) ∧ 6 < kn v ∧ 0 ≤ i ∧ i < on v then bt (20 * v + i) else -1)) : wpDV_X6_byteOf post kd an ai ar mX6_values mX6_count mX74_bytes x v i := by
  unfold wpDV_X6_byteOf
  refine CDV_at C V.1.2 (fun q => ⟨fun _ => ⟨fun _ => ?_, fun w => absurd rfl w⟩, fun b e => (nomatch e)⟩) (fun v0 v1 r O => ⟨fun e => (nomatch e), fun r2 e => ?_⟩)
  · rw [if_neg (fun w => q w.1)] at hp; exact hp
  · cases e
    have Vv := (V.2 v v0 v1).1
    refine ⟨O.kd' Vv.1, fun z h1 h0 => ?_⟩
    obtain ⟨_, K⟩ := O.cs Vv.1
    unfold dvOv at Vv
    by_cases k : 6 < kn v
    · rcases K with ⟨k', -⟩ | ⟨k', -⟩ | ⟨k', -⟩ | ⟨k', -⟩ | ⟨_, kr, q, e1, e2, e3, e4, e5⟩
      · omega
      · omega
      · omega
      · omega
      have V3 := Vv.2.2.2.2.2 k
      have z1 := h1 kr
      refine ⟨fun w => by omega, fun _ => ⟨kr, fun w => ?_, fun w => kOn_of e1 ⟨e3, by omega, fun w2 => ?_, fun w2 => ⟨by omega, ?_⟩⟩⟩⟩
      · rw [if_neg (by omega)] at hp; exact hp
      · rw [if_neg (by omega)] at hp; exact hp
      · rw [if_pos ⟨⟨v0, v1⟩, k, by omega, by omega⟩] at hp
        rw [(e5 i (by omega) (by omega)).2]; exact hp
    · rw [if_neg (fun w => k w.2.1)] at hp
      have nk : ¬ kd r = 8 := by
        rcases K with ⟨-, w, -⟩ | ⟨-, w, -⟩ | ⟨-, w, -⟩ | ⟨-, w, -⟩ | ⟨w, -⟩ <;> omega
      exact ⟨fun _ => hp, fun w => absurd (h0 nk) w⟩
theorem CDV_told {post : Int → Prop} (C : dvC (kd, an, ai, al, ar, mX6_tape, mX6_size, mX6_values, mX6_count, mX6_writer, mX7_bytes, mX7_size, mX67_tape, mX67_size, mX67_at, mX67_wrong, mX67_place, mX68_kind, mX69_upper, mX69_lower, mX70_is, mX72_millis, mX72_zone, mX73_months, mX73_millis, mX74_bytes) x qt qv wr qw tp sz c kn on tw bt os o) (hs : os ≤ 80) (hp : post (if 0 ≤ i ∧ i < os then o i else -1)) : wpDV_X6_told post kd an ai mX6_writer mX7_bytes mX7_size x i := by
  obtain ⟨c1, ⟨c2, c3, c4, c5⟩, c6, c7, c8⟩ := C.2.2.1
  dsimp only [HpDV.kd, HpDV.an, HpDV.ai, HpDV.al, HpDV.ar, HpDV.mX6_tape, HpDV.mX6_size, HpDV.mX6_values, HpDV.mX6_count, HpDV.mX6_writer, HpDV.mX7_bytes, HpDV.mX7_size, HpDV.mX67_tape, HpDV.mX67_size, HpDV.mX67_at, HpDV.mX67_wrong, HpDV.mX67_place, HpDV.mX68_kind, HpDV.mX69_upper, HpDV.mX69_lower, HpDV.mX70_is, HpDV.mX72_millis, HpDV.mX72_zone, HpDV.mX73_months, HpDV.mX73_millis, HpDV.mX74_bytes] at c1 c2 c3 c4 c5 c7 c8
  unfold wpDV_X6_told
  refine ⟨fun z => ?_, fun z => kOn_of c1 ⟨c5, fun w => ?_, fun w => kOn_of c2 ⟨c3, by rw [c4]; omega, ?_⟩⟩⟩
  · rw [if_neg (by omega)] at hp; exact hp
  · rw [c7] at w
    rw [if_neg (by omega)] at hp; exact hp
  · rw [c7] at w
    rw [if_pos (by omega)] at hp
    rw [c8 i (by omega) (by omega)]; exact hp
theorem CDV_cmpL {post : Int → Prop} (hp : post (dvSgn X Y)) : wpDV_J21_compare post X Y := by
  unfold dvSgn at hp
  unfold wpDV_J21_compare
  refine ⟨fun q => ⟨fun w => ?_, fun w => ?_⟩, fun q => ?_⟩
  · rw [if_neg (by omega), if_neg (by omega)] at hp; exact hp
  · rw [if_neg (by omega), if_pos (by omega)] at hp; exact hp
  · rw [if_pos (by omega)] at hp; exact hp
theorem CDV_cmpI {post : Int → Prop} (hp : post (dvSgn X Y)) : wpDV_J3_compare post X Y := by
  unfold dvSgn at hp
  unfold wpDV_J3_compare
  refine ⟨fun q => ⟨fun w => ?_, fun w => ?_⟩, fun q => ?_⟩
  · rw [if_neg (by omega), if_neg (by omega)] at hp; exact hp
  · rw [if_neg (by omega), if_pos (by omega)] at hp; exact hp
  · rw [if_pos (by omega)] at hp; exact hp
theorem CDV_cmpZ {post : Int → Prop} (hx : X = 0 ∨ X = 1) (hy : Y = 0 ∨ Y = 1) (hp : post (dvSgn X Y)) : wpDV_J25_compare post X Y := by
  unfold dvSgn at hp
  unfold wpDV_J25_compare
  refine ⟨fun w => ?_, fun w => ⟨fun q => ?_, fun q => ?_⟩⟩
  · rw [if_neg (by omega), if_neg (by omega)] at hp; exact hp
  · rw [if_pos (by omega)] at hp; exact hp
  · rw [if_neg (by omega), if_pos (by omega)] at hp; exact hp
theorem CDV_point {post : Int → Prop} (e1 : mX72_millis r = on v) (e2 : mX72_zone r = tw v) (h1 : -1000000000000000 ≤ on v ∧ on v ≤ 1000000000000000) (h2 : -1000000 ≤ tw v ∧ tw v ≤ 1000000) (hp : post (dvPt on tw v)) : wpDV_X72_point post mX72_millis mX72_zone r := by
  unfold dvPt at hp
  unfold wpDV_X72_point
  rw [e1, e2]
  refine ⟨fun q => ?_, fun q => ⟨by omega, ?_⟩⟩
  · rw [if_pos q] at hp; exact hp
  · rw [if_neg q] at hp; exact hp
/-- numbers -/
theorem CDV_cmpN {post : Int → (Nat → Nat) → (Nat → Nat) → (Nat → Int → Int) → Prop} (O1 : dvO (kd, an, ai, al, ar, mX6_tape, mX6_size, mX6_values, mX6_count, mX6_writer, mX7_bytes, mX7_size, mX67_tape, mX67_size, mX67_at, mX67_wrong, mX67_place, mX68_kind, mX69_upper, mX69_lower, mX70_is, mX72_millis, mX72_zone, mX73_months, mX73_millis, mX74_bytes) qt qw r (kn a) (on a) (tw a) row) (O2 : dvO (kd, an, ai, al, ar, mX6_tape, mX6_size, mX6_values, mX6_count, mX6_writer, mX7_bytes, mX7_size, mX67_tape, mX67_size, mX67_at, mX67_wrong, mX67_place, mX68_kind, mX69_upper, mX69_lower, mX70_is, mX72_millis, mX72_zone, mX73_months, mX73_millis, mX74_bytes) qt qw s (kn b) (on b) (tw b) row') (h1 : 0 ≤ kn a ∧ kn a ≤ 2) (h2 : 0 ≤ kn b ∧ kn b ≤ 8) (Va : dvOv (kn a) (on a) (tw a)) (Vb : dvOv (kn b) (on b) (tw b)) (hy : kn b ≤ 2 → post (dvSgn (on a * tw b) (on b * tw a)) kd an ai) (hn : ¬ kn b ≤ 2 → post 2 kd an ai) : wpDV_X69_compare MC MS post kd an ai mX69_upper mX69_lower r (some s) := by
  have nl := Nat.zero_le
  obtain ⟨_, K1⟩ := O1.cs (by omega)
  obtain ⟨_, K2⟩ := O2.cs h2
  have a2 := Va.2.1 h1.2
  have b2 := Vb.2.1
  unfold wpDV_X69_compare
  refine kOn_some ⟨O2.kd' h2, fun z z1 z0 => ?_⟩
  rcases K1 with ⟨_, ra, e1, e2⟩ | ⟨k', -⟩ | ⟨k', -⟩ | ⟨k', -⟩ | ⟨k', -⟩
  · by_cases k : kn b ≤ 2
    · rcases K2 with ⟨_, kr, f1, f2⟩ | ⟨k', -⟩ | ⟨k', -⟩ | ⟨k', -⟩ | ⟨k', -⟩
      · have b2 := b2 k
        have m1 := dv_m (x := on a) (y := tw b) (by omega) (by omega)
        have m2 := dv_m (x := on b) (y := tw a) (by omega) (by omega)
        rw [e1, e2, f1, f2]
        exact ⟨fun w => absurd (z1 kr) (by omega), fun _ => ⟨kr, by omega, by omega, ⟨nl _, nl _⟩, CDV_cmpL ⟨nl _, nl _, hy k⟩⟩⟩
      · omega
      · omega
      · omega
      · omega
    · have nk : ¬ kd s = 4 := by
        rcases K2 with ⟨w, -⟩ | ⟨-, w, -⟩ | ⟨-, w, -⟩ | ⟨-, w, -⟩ | ⟨-, w, -⟩ <;> omega
      exact ⟨fun _ => ⟨nl _, nl _, hn k⟩, fun w => absurd (z0 nk) w⟩
  · omega
  · omega
  · omega
  · omega
/-- truths -/
theorem CDV_cmpT {post : Int → (Nat → Nat) → (Nat → Nat) → (Nat → Int → Int) → Prop} (O1 : dvO (kd, an, ai, al, ar, mX6_tape, mX6_size, mX6_values, mX6_count, mX6_writer, mX7_bytes, mX7_size, mX67_tape, mX67_size, mX67_at, mX67_wrong, mX67_place, mX68_kind, mX69_upper, mX69_lower, mX70_is, mX72_millis, mX72_zone, mX73_months, mX73_millis, mX74_bytes) qt qw r (kn a) (on a) (tw a) row) (O2 : dvO (kd, an, ai, al, ar, mX6_tape, mX6_size, mX6_values, mX6_count, mX6_writer, mX7_bytes, mX7_size, mX67_tape, mX67_size, mX67_at, mX67_wrong, mX67_place, mX68_kind, mX69_upper, mX69_lower, mX70_is, mX72_millis, mX72_zone, mX73_months, mX73_millis, mX74_bytes) qt qw s (kn b) (on b) (tw b) row') (h1 : kn a = 3) (h2 : 0 ≤ kn b ∧ kn b ≤ 8) (Va : dvOv (kn a) (on a) (tw a)) (Vb : dvOv (kn b) (on b) (tw b)) (hy : kn b = 3 → post (dvSgn (on a) (on b)) kd an ai) (hn : ¬ kn b = 3 → post 2 kd an ai) : wpDV_X70_compare MC MS post kd an ai mX70_is r (some s) := by
  have nl := Nat.zero_le
  obtain ⟨_, K1⟩ := O1.cs (by omega)
  obtain ⟨_, K2⟩ := O2.cs h2
  have a2 := Va.2.2.1 h1
  have b2 := Vb.2.2.1
  unfold wpDV_X70_compare
  refine kOn_some ⟨O2.kd' h2, fun z z1 z0 => ?_⟩
  rcases K1 with ⟨k', -⟩ | ⟨_, ra, e1⟩ | ⟨k', -⟩ | ⟨k', -⟩ | ⟨k', -⟩
  · omega
  · by_cases k : kn b = 3
    · rcases K2 with ⟨k', -⟩ | ⟨_, kr, f1⟩ | ⟨k', -⟩ | ⟨k', -⟩ | ⟨k', -⟩
      · omega
      · have b2 := b2 k
        rw [e1, f1]
        exact ⟨fun w => absurd (z1 kr) (by omega), fun _ => ⟨kr, ⟨nl _, nl _⟩, CDV_cmpZ a2.1 b2.1 ⟨nl _, nl _, hy k⟩⟩⟩
      · omega
      · omega
      · omega
    · have nk : ¬ kd s = 5 := by
        rcases K2 with ⟨-, w, -⟩ | ⟨w, -⟩ | ⟨-, w, -⟩ | ⟨-, w, -⟩ | ⟨-, w, -⟩ <;> omega
      exact ⟨fun _ => ⟨nl _, nl _, hn k⟩, fun w => absurd (z0 nk) w⟩
  · omega
  · omega
  · omega
/-- times -/
theorem CDV_ct48 {post : Int → (Nat → Nat) → (Nat → Nat) → (Nat → Int → Int) → Prop} {y0 y1 : Int} (hk : kc ≤ MC ∧ ks ≤ MS) (ks' : kd s = 6) (a1 : mX72_millis r = on a) (a2 : mX72_zone r = tw a) (b1 : mX72_millis s = on b) (b2 : mX72_zone s = tw b) (A1 : -1000000000000000 ≤ on a ∧ on a ≤ 1000000000000000) (A2 : -1000000 ≤ tw a ∧ tw a ≤ 1000000) (B1 : -1000000000000000 ≤ on b ∧ on b ≤ 1000000000000000) (B2 : -1000000 ≤ tw b ∧ tw b ≤ 1000000)
    (hy : y0 = y1 ↔ ((tw a = 10000) ↔ (tw b = 10000))) (hp : post (dvTm on tw a b) kd an ai) : wDV_X72_compare_48 MC MS post r (some s) y0 y1 kd an ai mX72_millis mX72_zone kc ks := by
  unfold wDV_X72_compare_48
  unfold dvTm at hp
  refine ⟨fun q => ?_, fun q => ?_⟩
  · rw [if_pos (hy.1 q)] at hp
    exact ⟨hk, CDV_point a1 a2 A1 A2 (kOn_some ⟨ks', hk, CDV_point b1 b2 B1 B2 ⟨hk, CDV_cmpL ⟨hk.1, hk.2, hp⟩⟩⟩)⟩
  · rw [if_neg (fun w => q (hy.2 w))] at hp
    have ne : ¬ ((tw a = 10000) ↔ (tw b = 10000)) := fun w => q (hy.2 w)
    have pa : -1100000000000000 ≤ dvPt on tw a ∧ dvPt on tw a ≤ 1100000000000000 := by unfold dvPt; split <;> omega
    have pb : -1100000000000000 ≤ dvPt on tw b ∧ dvPt on tw b ≤ 1100000000000000 := by unfold dvPt; split <;> omega
    have key : post (if dvPt on tw a - dvPt on tw b < -50400000 then -1 else if 50400000 < dvPt on tw a - dvPt on tw b then 1 else 2) kd an ai := by
      by_cases t : tw a = 10000
      · rw [if_pos t] at hp
        have ea : dvPt on tw a = on a := by unfold dvPt; rw [if_pos t]
        rw [ea]
        unfold dvTf dvSgn at hp
        generalize dvPt on tw b = P at hp ⊢
        by_cases l : on a - P < -50400000
        · rw [if_pos l]
          rw [if_pos (show on a - 50400000 < P by omega), if_pos (show on a + 50400000 < P by omega), if_pos ⟨rfl, by decide⟩] at hp
          exact hp
        · rw [if_neg l]
          by_cases g : 50400000 < on a - P
          · rw [if_pos g]
            rw [if_neg (show ¬ on a - 50400000 < P by omega), if_neg (show ¬ on a + 50400000 < P by omega), if_pos (show P < on a - 50400000 by omega), if_pos (show P < on a + 50400000 by omega), if_pos ⟨rfl, by decide⟩] at hp
            exact hp
          · rw [if_neg g]
            rw [if_neg (show ¬ on a + 50400000 < P by omega)] at hp
            by_cases u : on a - 50400000 < P
            · rw [if_pos u] at hp
              by_cases u2 : P < on a + 50400000
              · rw [if_pos u2, if_neg (by decide)] at hp; exact hp
              · rw [if_neg u2, if_neg (by decide)] at hp; exact hp
            · rw [if_neg u, if_neg (show ¬ P < on a - 50400000 by omega), if_neg (by omega)] at hp; exact hp
      · rw [if_neg t] at hp
        have tb : tw b = 10000 := by omega
        have eb : dvPt on tw b = on b := by unfold dvPt; rw [if_pos tb]
        rw [eb]
        unfold dvTf dvSgn at hp
        generalize dvPt on tw a = P at hp ⊢
        by_cases l : P - on b < -50400000
        · rw [if_pos l]
          rw [if_pos (show P < on b - 50400000 by omega), if_pos (show P < on b + 50400000 by omega), if_pos ⟨rfl, by decide⟩] at hp
          exact hp
        · rw [if_neg l]
          by_cases g : 50400000 < P - on b
          · rw [if_pos g]
            rw [if_neg (show ¬ P < on b - 50400000 by omega), if_neg (show ¬ P < on b + 50400000 by omega), if_pos (show on b - 50400000 < P by omega), if_pos (show on b + 50400000 < P by omega), if_pos ⟨rfl, by decide⟩] at hp
            exact hp
          · rw [if_neg g]
            rw [if_neg (show ¬ P < on b - 50400000 by omega)] at hp
            by_cases u : P < on b + 50400000
            · rw [if_pos u] at hp
              by_cases u2 : on b - 50400000 < P
              · rw [if_pos u2, if_neg (by decide)] at hp; exact hp
              · rw [if_neg u2, if_neg (by decide)] at hp; exact hp
            · rw [if_neg u, if_neg (show ¬ on b + 50400000 < P by omega), if_neg (by omega)] at hp; exact hp
    refine ⟨hk, CDV_point a1 a2 A1 A2 (kOn_some ⟨ks', hk, CDV_point b1 b2 B1 B2 ⟨by omega, fun d ed => ?_⟩⟩)⟩
    rw [← ed] at key
    refine ⟨fun l => ⟨fun g => ⟨hk.1, hk.2, ?_⟩, fun g => ⟨hk.1, hk.2, ?_⟩⟩, fun l => ⟨hk.1, hk.2, ?_⟩⟩
    · rw [if_neg (by omega), if_neg (by omega)] at key; exact key
    · rw [if_neg (by omega), if_pos (by omega)] at key; exact key
    · rw [if_pos (by omega)] at key; exact key
theorem CDV_cmpM {post : Int → (Nat → Nat) → (Nat → Nat) → (Nat → Int → Int) → Prop} (O1 : dvO (kd, an, ai, al, ar, mX6_tape, mX6_size, mX6_values, mX6_count, mX6_writer, mX7_bytes, mX7_size, mX67_tape, mX67_size, mX67_at, mX67_wrong, mX67_place, mX68_kind, mX69_upper, mX69_lower, mX70_is, mX72_millis, mX72_zone, mX73_months, mX73_millis, mX74_bytes) qt qw r (kn a) (on a) (tw a) row) (O2 : dvO (kd, an, ai, al, ar, mX6_tape, mX6_size, mX6_values, mX6_count, mX6_writer, mX7_bytes, mX7_size, mX67_tape, mX67_size, mX67_at, mX67_wrong, mX67_place, mX68_kind, mX69_upper, mX69_lower, mX70_is, mX72_millis, mX72_zone, mX73_months, mX73_millis, mX74_bytes) qt qw s (kn b) (on b) (tw b) row') (h1 : kn a = 4 ∨ kn a = 5) (h2 : 0 ≤ kn b ∧ kn b ≤ 8) (Va : dvOv (kn a) (on a) (tw a)) (Vb : dvOv (kn b) (on b) (tw b)) (hy : kn b = kn a → post (dvTm on tw a b) kd an ai) (hn : ¬ kn b = kn a → post 2 kd an ai) : wpDV_X72_compare MC MS post kd an ai mX68_kind mX72_millis mX72_zone r (some s) := by
  have nl := Nat.zero_le
  obtain ⟨x1, K1⟩ := O1.cs (by omega)
  obtain ⟨x2, K2⟩ := O2.cs h2
  have n1 : dvOf 1 1 1 = -719162 := by decide
  have n2 : dvOf 10000 1 1 = 2932897 := by decide
  have a2 := Va.2.2.2.1 h1
  have b2 := Vb.2.2.2.1
  rw [n1, n2] at a2 b2
  unfold wpDV_X72_compare
  refine kOn_some ⟨O2.kd' h2, fun q => ?_, fun q => ⟨nl _, nl _, hn (by omega)⟩⟩
  rw [x1, x2] at q
  rcases K1 with ⟨k', -⟩ | ⟨k', -⟩ | ⟨_, ra, e1, e2⟩ | ⟨k', -⟩ | ⟨k', -⟩
  · clear K2; omega
  · clear K2; omega
  · rcases K2 with ⟨k', -⟩ | ⟨k', -⟩ | ⟨kb, kr, f1, f2⟩ | ⟨k', -⟩ | ⟨k', -⟩
    · omega
    · omega
    · have b2 := b2 kb
      have go : ∀ y0 y1 : Int, (y0 = y1 ↔ ((tw a = 10000) ↔ (tw b = 10000))) → wDV_X72_compare_48 MC MS post r (some s) y0 y1 kd an ai mX72_millis mX72_zone 0 0 := fun y0 y1 e => CDV_ct48 ⟨nl _, nl _⟩ kr e1 e2 f1 f2 (by omega) (by omega) (by omega) (by omega) e (hy q)
      rw [e2, f2]
      exact ⟨kr, fun u => ⟨fun w => go 1 1 (by omega), fun w => go 1 0 (by omega)⟩, fun u => ⟨fun w => go 0 1 (by omega), fun w => go 0 0 (by omega)⟩⟩
    · omega
    · omega
  · clear K2; omega
  · clear K2; omega
/-- rows of bytes -/
theorem CDV_cr19 {K58 : Int → Prop} {q q' : Nat} (e1 : mX74_bytes r = some q) (k1 : kd q = 10) (n1 : (an q : Int) = on a) (e2 : mX74_bytes s = some q') (k2' : kd q' = 10) (n2 : (an q' : Int) = on b) (ks' : kd s = 8) (hn : on a ≤ 20 ∧ on b ≤ 20) (r1 : ∀ i, 0 ≤ i → i < on a → (-128 ≤ ai q i ∧ ai q i < 128) ∧ ai q i % 256 = bt (20 * a + i)) (r2 : ∀ i, 0 ≤ i → i < on b → (-128 ≤ ai q' i ∧ ai q' i < 128) ∧ ai q' i % 256 = bt (20 * b + i)) : ∀ (f : Nat) (k : Int), 0 ≤ k → 0 < (f : Int) ∧ on a - k < f →
    (∀ j, k ≤ j → (on a ≤ j ∨ on b ≤ j) → dvCr on bt a b f k = dvSgn (on a) (on b) → (j = on a ∨ j = on b ∨ on a < k ∨ on b < k) → K58 j) → (∀ j, k ≤ j → j < on a → j < on b → ¬ dvSgn (bt (20 * a + j)) (bt (20 * b + j)) = 0 → dvCr on bt a b f k = dvSgn (bt (20 * a + j)) (bt (20 * b + j)) → K58 j) → wDV_X74_compare_19 MC MS K58 r (some s) kd an ai mX74_bytes f k
  | 0, k, hk, hf, h1, h2 => by exact absurd hf.1 (by decide)
  | f + 1, k, hk, hf, h1, h2 => by
    rw [wDV_X74_compare_19]
    rw [dvCr] at h1 h2
    refine kOn_of e1 ⟨k1, by omega, fun w => ?_, fun w => kOn_some ⟨ks', kOn_of e2 ⟨k2', by omega, fun w2 => ?_, fun w2 => ⟨by omega, by omega, fun e => ⟨by omega, fun k2 ek => ?_⟩, fun e => ?_⟩⟩⟩⟩
    · exact h1 k (Int.le_refl k) (by omega) (if_pos (by omega)) (by omega)
    · exact h1 k (Int.le_refl k) (by omega) (if_pos (by omega)) (by omega)
    · have s1 := (r1 k hk (by omega)).2
      have s2 := (r2 k hk (by omega)).2
      rw [e, s2] at s1
      have z : dvSgn (bt (20 * a + k)) (bt (20 * b + k)) = 0 := by unfold dvSgn; rw [if_neg (by omega), if_neg (by omega)]
      rw [if_neg (by omega), if_pos z] at h1 h2
      subst ek
      exact CDV_cr19 e1 k1 n1 e2 k2' n2 ks' hn r1 r2 f (k + 1) (by omega) ⟨by omega, by omega⟩ (fun j j0 j1 e' j2 => h1 j (by omega) j1 e' (by omega)) (fun j j0 j1 j2 z2 e' => h2 j (by omega) j1 j2 z2 e')
    · have s1 := r1 k hk (by omega)
      have s2 := r2 k hk (by omega)
      have z : ¬ dvSgn (bt (20 * a + k)) (bt (20 * b + k)) = 0 := by
        unfold dvSgn
        have : ¬ bt (20 * a + k) = bt (20 * b + k) := fun q => e (by omega)
        split
        · decide
        · rw [if_pos (by omega)]; decide
      exact h2 k (Int.le_refl k) (by omega) (by omega) z (by rw [if_neg (by omega), if_neg z])
theorem CDV_cmpR {post : Int → (Nat → Nat) → (Nat → Nat) → (Nat → Int → Int) → Prop} (O1 : dvO (kd, an, ai, al, ar, mX6_tape, mX6_size, mX6_values, mX6_count, mX6_writer, mX7_bytes, mX7_size, mX67_tape, mX67_size, mX67_at, mX67_wrong, mX67_place, mX68_kind, mX69_upper, mX69_lower, mX70_is, mX72_millis, mX72_zone, mX73_months, mX73_millis, mX74_bytes) qt qw r (kn a) (on a) (tw a) (fun k => bt (20 * a + k))) (O2 : dvO (kd, an, ai, al, ar, mX6_tape, mX6_size, mX6_values, mX6_count, mX6_writer, mX7_bytes, mX7_size, mX67_tape, mX67_size, mX67_at, mX67_wrong, mX67_place, mX68_kind, mX69_upper, mX69_lower, mX70_is, mX72_millis, mX72_zone, mX73_months, mX73_millis, mX74_bytes) qt qw s (kn b) (on b) (tw b) (fun k => bt (20 * b + k))) (h1 : 6 < kn a ∧ kn a ≤ 8) (h2 : 0 ≤ kn b ∧ kn b ≤ 8) (Va : dvOv (kn a) (on a) (tw a)) (Vb : dvOv (kn b) (on b) (tw b)) (hy : 6 < kn b → post (dvCr on bt a b 21 0) kd an ai) (hn : ¬ 6 < kn b → post 2 kd an ai) : wpDV_X74_compare MC MS post kd an ai mX74_bytes r (some s) := by
  have nl := Nat.zero_le
  obtain ⟨_, K1⟩ := O1.cs (by omega)
  obtain ⟨_, K2⟩ := O2.cs h2
  have a2 := Va.2.2.2.2.2 h1.1
  have b2 := Vb.2.2.2.2.2
  unfold wpDV_X74_compare
  refine kOn_some ⟨O2.kd' h2, fun z z1 z0 => ?_⟩
  rcases K1 with ⟨k', -⟩ | ⟨k', -⟩ | ⟨k', -⟩ | ⟨k', -⟩ | ⟨_, ra, q, e1, e2, e3, e4, e5⟩
  · omega
  · omega
  · omega
  · omega
  · by_cases k : 6 < kn b
    · rcases K2 with ⟨k', -⟩ | ⟨k', -⟩ | ⟨k', -⟩ | ⟨k', -⟩ | ⟨_, kr, q', f1, f2, f3, f4, f5⟩
      · omega
      · omega
      · omega
      · omega
      · have b2 := b2 k
        have hy := hy k
        refine ⟨fun w => absurd (z1 kr) (by omega), fun _ => ⟨kr, 21, CDV_cr19 e1 e3 e4 f1 f3 f4 kr ⟨by omega, by omega⟩ e5 f5 21 0 (by decide) ⟨by decide, by show on a - 0 < 21; omega⟩ (fun j j0 j1 e j2 => ?_) (fun j j0 j1 j2 nz e => ?_)⟩⟩
        · rw [e] at hy
          unfold wDV_X74_compare_58
          refine kOn_of e1 ⟨e3, by omega, fun w => kOn_some ⟨kr, kOn_of f1 ⟨f3, by omega, ⟨nl _, nl _⟩, CDV_cmpI ?_⟩⟩, fun w => kOn_some ⟨kr, kOn_of f1 ⟨f3, by omega, fun w2 => ⟨⟨nl _, nl _⟩, CDV_cmpI ?_⟩, fun w2 => by omega⟩⟩⟩
          · rw [e4, f4]; exact ⟨nl _, nl _, hy⟩
          · rw [e4, f4]; exact ⟨nl _, nl _, hy⟩
        · rw [e] at hy
          unfold wDV_X74_compare_58
          refine kOn_of e1 ⟨e3, by omega, fun w => by omega, fun w => kOn_some ⟨kr, kOn_of f1 ⟨f3, by omega, fun w2 => by omega, fun w2 => ⟨by omega, by omega, ⟨nl _, nl _⟩, CDV_cmpI ?_⟩⟩⟩⟩
          rw [(e5 j j0 j1).2, (f5 j j0 j2).2]
          have S := dvSgn_b (x := bt (20 * a + j)) (y := bt (20 * b + j))
          refine ⟨fun w => ⟨nl _, nl _, ?_⟩, fun w => ⟨nl _, nl _, ?_⟩⟩
          · rw [show dvSgn (bt (20 * a + j)) (bt (20 * b + j)) = 1 by omega] at hy; exact hy
          · rw [show dvSgn (bt (20 * a + j)) (bt (20 * b + j)) = -1 by omega] at hy; exact hy
    · have nk : ¬ kd s = 8 := by
        rcases K2 with ⟨-, w, -⟩ | ⟨-, w, -⟩ | ⟨-, w, -⟩ | ⟨-, w, -⟩ | ⟨w, -⟩ <;> omega
      exact ⟨fun _ => ⟨nl _, nl _, hn k⟩, fun w => absurd (z0 nk) w⟩
end

/-! DatatypeValues, the component: spans compared; all that is compared -/
section
variable {kd : Nat → Nat} {an : Nat → Nat} {ai : Nat → Int → Int} {al : Nat → Int → Int} {ar : Nat → Int → Option Nat} {mX6_tape : Nat → Option Nat} {mX6_size : Nat → Int} {mX6_values : Nat → Option Nat} {mX6_count : Nat → Int} {mX6_writer : Nat → Option Nat} {mX7_bytes : Nat → Option Nat} {mX7_size : Nat → Int} {mX67_tape : Nat → Option Nat} {mX67_size : Nat → Int} {mX67_at : Nat → Int} {mX67_wrong : Nat → Option Nat} {mX67_place : Nat → Int} {mX68_kind : Nat → Int} {mX69_upper : Nat → Int} {mX69_lower : Nat → Int} {mX70_is : Nat → Int} {mX72_millis : Nat → Int} {mX72_zone : Nat → Int} {mX73_months : Nat → Int} {mX73_millis : Nat → Int} {mX74_bytes : Nat → Option Nat} {sa : Nat → Nat} {so : kSo} {qt qw x qv wr r s : Nat} {tp kn on tw bt o row row' : Int → Int} {sz c os v i n k one two k2 one' two' a b X Y : Int} {MC MS kc ks : Nat}
theorem dvKp.d {q : Nat} {D : Int → Int} (hq : kd q = 0) : dvKp (kd, an, ai, al, ar, mX6_tape, mX6_size, mX6_values, mX6_count, mX6_writer, mX7_bytes, mX7_size, mX67_tape, mX67_size, mX67_at, mX67_wrong, mX67_place, mX68_kind, mX69_upper, mX69_lower, mX70_is, mX72_millis, mX72_zone, mX73_months, mX73_millis, mX74_bytes) ((va_up kd q 9), (va_up an q 3), (va_up ai q D), al, ar, mX6_tape, mX6_size, mX6_values, mX6_count, mX6_writer, mX7_bytes, mX7_size, mX67_tape, mX67_size, mX67_at, mX67_wrong, mX67_place, mX68_kind, mX69_upper, mX69_lower, mX70_is, mX72_millis, mX72_zone, mX73_months, mX73_millis, mX74_bytes) := fun r hr => by
  have u := @dvU kd q r hq hr
  dsimp only [HpDV.kd, HpDV.an, HpDV.ai, HpDV.al, HpDV.ar, HpDV.mX6_tape, HpDV.mX6_size, HpDV.mX6_values, HpDV.mX6_count, HpDV.mX6_writer, HpDV.mX7_bytes, HpDV.mX7_size, HpDV.mX67_tape, HpDV.mX67_size, HpDV.mX67_at, HpDV.mX67_wrong, HpDV.mX67_place, HpDV.mX68_kind, HpDV.mX69_upper, HpDV.mX69_lower, HpDV.mX70_is, HpDV.mX72_millis, HpDV.mX72_zone, HpDV.mX73_months, HpDV.mX73_millis, HpDV.mX74_bytes]
  simp only [u, and_self]
theorem dv_sg0 : zTabL sg3 0 = 86400000 * dvD0 := by decide
theorem dv_sg1 : zTabL sg3 1 = 86400000 * dvD1 := by decide
theorem dv_sg2 : zTabL sg3 2 = 86400000 * dvD2 := by decide
theorem dv_sg3 : zTabL sg3 3 = 86400000 * dvD3 := by decide
theorem CDV_cs56 {K103 K111 : (Nat → Nat) → (Nat → Nat) → (Nat → Int → Int) → Nat → Nat → Prop} {by' d : Int} {f : Nat} (hk : 0 ≤ k ∧ k < 4) (he : zTabL sg3 k = 86400000 * d) (hd : -1000000 ≤ d ∧ d ≤ 1000000) (hM : kc + 2 ≤ MC ∧ ks + 6 ≤ MS) (ks' : kd s = 7) (a1 : mX73_months r = on a) (a2 : mX73_millis r = tw a) (b1 : mX73_months s = on b) (b2 : mX73_millis s = tw b)
    (A1 : -1000000000 < on a ∧ on a < 1000000000) (A2 : -1000000000000000 < tw a ∧ tw a < 1000000000000000) (B1 : -1000000000 < on b ∧ on b < 1000000000) (B2 : -1000000000000000 < tw b ∧ tw b < 1000000000000000)
    (hy : dvNw on tw a b d = by' → ∀ kd' an' ai', dvKp (kd, an, ai, al, ar, mX6_tape, mX6_size, mX6_values, mX6_count, mX6_writer, mX7_bytes, mX7_size, mX67_tape, mX67_size, mX67_at, mX67_wrong, mX67_place, mX68_kind, mX69_upper, mX69_lower, mX70_is, mX72_millis, mX72_zone, mX73_months, mX73_millis, mX74_bytes) ((kd'), (an'), (ai'), al, ar, mX6_tape, mX6_size, mX6_values, mX6_count, mX6_writer, mX7_bytes, mX7_size, mX67_tape, mX67_size, mX67_at, mX67_wrong, mX67_place, mX68_kind, mX69_upper, mX69_lower, mX70_is, mX72_millis, mX72_zone, mX73_months, mX73_millis, mX74_bytes) → wDV_X73_compare_56 MC MS K103 K111 r (some s) by' mX73_months mX73_millis f (k + 1) kd' an' ai' (kc + 1 + 1) (ks + 3 + 3))
    (hn : ¬ dvNw on tw a b d = by' → ∀ kd' an' ai', dvKp (kd, an, ai, al, ar, mX6_tape, mX6_size, mX6_values, mX6_count, mX6_writer, mX7_bytes, mX7_size, mX67_tape, mX67_size, mX67_at, mX67_wrong, mX67_place, mX68_kind, mX69_upper, mX69_lower, mX70_is, mX72_millis, mX72_zone, mX73_months, mX73_millis, mX74_bytes) ((kd'), (an'), (ai'), al, ar, mX6_tape, mX6_size, mX6_values, mX6_count, mX6_writer, mX7_bytes, mX7_size, mX67_tape, mX67_size, mX67_at, mX67_wrong, mX67_place, mX68_kind, mX69_upper, mX69_lower, mX70_is, mX72_millis, mX72_zone, mX73_months, mX73_millis, mX74_bytes) → K103 kd' an' ai' (kc + 1 + 1) (ks + 3 + 3)) : wDV_X73_compare_56 MC MS K103 K111 r (some s) by' mX73_months mX73_millis (f + 1) k kd an ai kc ks := by
  rw [wDV_X73_compare_56]
  unfold dvNw at hy hn
  refine ⟨fun w => by omega, fun _ => ⟨hk, 1, 3, by omega, ?_⟩⟩
  rw [he, a1, a2]
  refine CDV_dadd (by decide) (by omega) (by omega) (by omega) (fun q D hq _ => ?_)
  have ns : ¬ s = q := fun e => by rw [e, hq] at ks'; exact absurd ks' (by decide)
  refine kOn_some ⟨by rw [va_up_ne _ _ ns]; exact ks', 1, 3, by omega, ?_⟩
  rw [b1, b2]
  refine CDV_dadd (by decide) (by omega) (by omega) (by omega) (fun q2 D2 hq2 _ => ⟨by omega, CDV_cmpL ⟨fun w => ⟨by omega, fun k2 ek => ?_⟩, fun w => ?_⟩⟩)
  · subst ek
    exact hy w _ _ _ (dvKp.trans (dvKp.d hq) (dvKp.d hq2))
  · exact hn w _ _ _ (dvKp.trans (dvKp.d hq) (dvKp.d hq2))
theorem CDV_cmpS {post : Int → (Nat → Nat) → (Nat → Nat) → (Nat → Int → Int) → Prop} (hM : 8 ≤ MC ∧ 24 ≤ MS) (O1 : dvO (kd, an, ai, al, ar, mX6_tape, mX6_size, mX6_values, mX6_count, mX6_writer, mX7_bytes, mX7_size, mX67_tape, mX67_size, mX67_at, mX67_wrong, mX67_place, mX68_kind, mX69_upper, mX69_lower, mX70_is, mX72_millis, mX72_zone, mX73_months, mX73_millis, mX74_bytes) qt qw r (kn a) (on a) (tw a) row) (O2 : dvO (kd, an, ai, al, ar, mX6_tape, mX6_size, mX6_values, mX6_count, mX6_writer, mX7_bytes, mX7_size, mX67_tape, mX67_size, mX67_at, mX67_wrong, mX67_place, mX68_kind, mX69_upper, mX69_lower, mX70_is, mX72_millis, mX72_zone, mX73_months, mX73_millis, mX74_bytes) qt qw s (kn b) (on b) (tw b) row') (h1 : kn a = 6) (h2 : 0 ≤ kn b ∧ kn b ≤ 8) (Va : dvOv (kn a) (on a) (tw a)) (Vb : dvOv (kn b) (on b) (tw b)) (hy : kn b = 6 → ∀ kd' an' ai', dvKp (kd, an, ai, al, ar, mX6_tape, mX6_size, mX6_values, mX6_count, mX6_writer, mX7_bytes, mX7_size, mX67_tape, mX67_size, mX67_at, mX67_wrong, mX67_place, mX68_kind, mX69_upper, mX69_lower, mX70_is, mX72_millis, mX72_zone, mX73_months, mX73_millis, mX74_bytes) ((kd'), (an'), (ai'), al, ar, mX6_tape, mX6_size, mX6_values, mX6_count, mX6_writer, mX7_bytes, mX7_size, mX67_tape, mX67_size, mX67_at, mX67_wrong, mX67_place, mX68_kind, mX69_upper, mX69_lower, mX70_is, mX72_millis, mX72_zone, mX73_months, mX73_millis, mX74_bytes) → post (dvSs on tw a b) kd' an' ai') (hn : ¬ kn b = 6 → post 2 kd an ai) : wpDV_X73_compare MC MS post kd an ai mX73_months mX73_millis r (some s) := by
  have nl := Nat.zero_le
  obtain ⟨_, K1⟩ := O1.cs (by omega)
  obtain ⟨_, K2⟩ := O2.cs h2
  have A := Va.2.2.2.2.1 h1
  have B := Vb.2.2.2.2.1
  have D0 : -1000000 ≤ dvD0 ∧ dvD0 ≤ 1000000 := by decide
  have D1 : -1000000 ≤ dvD1 ∧ dvD1 ≤ 1000000 := by decide
  have D2 : -1000000 ≤ dvD2 ∧ dvD2 ≤ 1000000 := by decide
  have D3 : -1000000 ≤ dvD3 ∧ dvD3 ≤ 1000000 := by decide
  unfold wpDV_X73_compare
  refine kOn_some ⟨O2.kd' h2, fun z z1 z0 => ?_⟩
  rcases K1 with ⟨k', -⟩ | ⟨k', -⟩ | ⟨k', -⟩ | ⟨_, ra, a1, a2⟩ | ⟨k', -⟩
  · omega
  · omega
  · omega
  · by_cases k : kn b = 6
    · rcases K2 with ⟨k', -⟩ | ⟨k', -⟩ | ⟨k', -⟩ | ⟨_, kr, b1, b2⟩ | ⟨k', -⟩
      · omega
      · omega
      · omega
      · have B := B k
        have hy := hy k
        unfold dvSs at hy
        refine ⟨fun w => absurd (z1 kr) (by omega), fun _ => ⟨kr, by decide, 1, 3, by omega, ?_⟩⟩
        rw [dv_sg0, a1, a2, b1, b2]
        refine CDV_dadd (by decide) (by omega) (by omega) (by omega) (fun q D hq _ => ⟨1, 3, by omega, CDV_dadd (by decide) (by omega) (by omega) (by omega) (fun q2 E2 hq2 _ => ⟨by omega, CDV_cmpL ⟨4, ?_⟩⟩)⟩)
        have p0 : dvKp (kd, an, ai, al, ar, mX6_tape, mX6_size, mX6_values, mX6_count, mX6_writer, mX7_bytes, mX7_size, mX67_tape, mX67_size, mX67_at, mX67_wrong, mX67_place, mX68_kind, mX69_upper, mX69_lower, mX70_is, mX72_millis, mX72_zone, mX73_months, mX73_millis, mX74_bytes) ((va_up (va_up kd q 9) q2 9), (va_up (va_up an q 3) q2 3), (va_up (va_up ai q D) q2 E2), al, ar, mX6_tape, mX6_size, mX6_values, mX6_count, mX6_writer, mX7_bytes, mX7_size, mX67_tape, mX67_size, mX67_at, mX67_wrong, mX67_place, mX68_kind, mX69_upper, mX69_lower, mX70_is, mX72_millis, mX72_zone, mX73_months, mX73_millis, mX74_bytes) := dvKp.trans (dvKp.d hq) (dvKp.d hq2)
        show wDV_X73_compare_56 MC MS _ _ r (some s) (dvNw on tw a b dvD0) mX73_months mX73_millis 4 1 _ _ _ _ _
        have ks1 : va_up (va_up kd q 9) q2 9 s = 7 := (p0.kd (r := s) (by show ¬ kd s = 0; omega)).trans kr
        refine CDV_cs56 (kd := (va_up (va_up kd q 9) q2 9)) (an := (va_up (va_up an q 3) q2 3)) (ai := (va_up (va_up ai q D) q2 E2)) (al := al) (ar := ar) (mX6_tape := mX6_tape) (mX6_size := mX6_size) (mX6_values := mX6_values) (mX6_count := mX6_count) (mX6_writer := mX6_writer) (mX7_bytes := mX7_bytes) (mX7_size := mX7_size) (mX67_tape := mX67_tape) (mX67_size := mX67_size) (mX67_at := mX67_at) (mX67_wrong := mX67_wrong) (mX67_place := mX67_place) (mX68_kind := mX68_kind) (mX69_upper := mX69_upper) (mX69_lower := mX69_lower) (mX70_is := mX70_is) (mX72_millis := mX72_millis) (mX72_zone := mX72_zone) (mX73_months := mX73_months) (mX73_millis := mX73_millis) (mX74_bytes := mX74_bytes) (by decide) dv_sg1 D1 (by omega) ks1 a1 a2 b1 b2 A.1 A.2 B.1 B.2 (fun w1 kd1 an1 ai1 p1 => ?_) (fun w1 kd1 an1 ai1 p1 => ⟨by omega, by omega, ?_⟩)
        · have p1 := dvKp.trans p0 p1
          have ks2 : kd1 s = 7 := (p1.kd (r := s) (by show ¬ kd s = 0; omega)).trans kr
          refine CDV_cs56 (kd := kd1) (an := an1) (ai := ai1) (al := al) (ar := ar) (mX6_tape := mX6_tape) (mX6_size := mX6_size) (mX6_values := mX6_values) (mX6_count := mX6_count) (mX6_writer := mX6_writer) (mX7_bytes := mX7_bytes) (mX7_size := mX7_size) (mX67_tape := mX67_tape) (mX67_size := mX67_size) (mX67_at := mX67_at) (mX67_wrong := mX67_wrong) (mX67_place := mX67_place) (mX68_kind := mX68_kind) (mX69_upper := mX69_upper) (mX69_lower := mX69_lower) (mX70_is := mX70_is) (mX72_millis := mX72_millis) (mX72_zone := mX72_zone) (mX73_months := mX73_months) (mX73_millis := mX73_millis) (mX74_bytes := mX74_bytes) (by decide) dv_sg2 D2 (by omega) ks2 a1 a2 b1 b2 A.1 A.2 B.1 B.2 (fun w2 kd2 an2 ai2 p2 => ?_) (fun w2 kd2 an2 ai2 p2 => ⟨by omega, by omega, ?_⟩)
          · have p2 := dvKp.trans p1 p2
            have ks3 : kd2 s = 7 := (p2.kd (r := s) (by show ¬ kd s = 0; omega)).trans kr
            refine CDV_cs56 (kd := kd2) (an := an2) (ai := ai2) (al := al) (ar := ar) (mX6_tape := mX6_tape) (mX6_size := mX6_size) (mX6_values := mX6_values) (mX6_count := mX6_count) (mX6_writer := mX6_writer) (mX7_bytes := mX7_bytes) (mX7_size := mX7_size) (mX67_tape := mX67_tape) (mX67_size := mX67_size) (mX67_at := mX67_at) (mX67_wrong := mX67_wrong) (mX67_place := mX67_place) (mX68_kind := mX68_kind) (mX69_upper := mX69_upper) (mX69_lower := mX69_lower) (mX70_is := mX70_is) (mX72_millis := mX72_millis) (mX72_zone := mX72_zone) (mX73_months := mX73_months) (mX73_millis := mX73_millis) (mX74_bytes := mX74_bytes) (by decide) dv_sg3 D3 (by omega) ks3 a1 a2 b1 b2 A.1 A.2 B.1 B.2 (fun w3 kd3 an3 ai3 p3 => ?_) (fun w3 kd3 an3 ai3 p3 => ⟨by omega, by omega, ?_⟩)
            · rw [if_pos ⟨w1.symm, by rw [w1, w2], by rw [w2, w3]⟩, w3] at hy
              rw [wDV_X73_compare_56]
              exact ⟨fun _ => ⟨by omega, by omega, hy _ _ _ (dvKp.trans p2 p3)⟩, fun w => absurd (by decide) w⟩
            · rw [if_neg (fun w => w3 (by rw [← w.2.2, w2]))] at hy
              exact hy _ _ _ (dvKp.trans p2 p3)
          · rw [if_neg (fun w => w2 (by rw [← w.2.1, w1]))] at hy
            exact hy _ _ _ (dvKp.trans p1 p2)
        · rw [if_neg (fun w => w1 w.1.symm)] at hy
          exact hy _ _ _ (dvKp.trans p0 p1)
      · omega
    · have nk : ¬ kd s = 7 := by
        rcases K2 with ⟨-, w, -⟩ | ⟨-, w, -⟩ | ⟨-, w, -⟩ | ⟨w, -⟩ | ⟨-, w, -⟩ <;> omega
      exact ⟨fun _ => ⟨nl _, nl _, hn k⟩, fun w => absurd (z0 nk) w⟩
  · omega
theorem CDV_compare {post : Int → (Nat → Nat) → (Nat → Nat) → (Nat → Int → Int) → Prop} (hM : 8 ≤ MC ∧ 24 ≤ MS) (C : dvC (kd, an, ai, al, ar, mX6_tape, mX6_size, mX6_values, mX6_count, mX6_writer, mX7_bytes, mX7_size, mX67_tape, mX67_size, mX67_at, mX67_wrong, mX67_place, mX68_kind, mX69_upper, mX69_lower, mX70_is, mX72_millis, mX72_zone, mX73_months, mX73_millis, mX74_bytes) x qt qv wr qw tp sz c kn on tw bt os o) (V : dvVs c kn on tw bt) (hp : ∀ kd' an' ai', dvKp (kd, an, ai, al, ar, mX6_tape, mX6_size, mX6_values, mX6_count, mX6_writer, mX7_bytes, mX7_size, mX67_tape, mX67_size, mX67_at, mX67_wrong, mX67_place, mX68_kind, mX69_upper, mX69_lower, mX70_is, mX72_millis, mX72_zone, mX73_months, mX73_millis, mX74_bytes) ((kd'), (an'), (ai'), al, ar, mX6_tape, mX6_size, mX6_values, mX6_count, mX6_writer, mX7_bytes, mX7_size, mX67_tape, mX67_size, mX67_at, mX67_wrong, mX67_place, mX68_kind, mX69_upper, mX69_lower, mX70_is, mX72_millis, mX72_zone, mX73_months, mX73_millis, mX74_bytes) → post (dvCm kn on tw bt c a b) kd' an' ai') : wpDV_X6_compare MC MS post kd an ai ar mX6_values mX6_count mX68_kind mX69_upper mX69_lower mX70_is mX72_millis mX72_zone mX73_months mX73_millis mX74_bytes x a b := by
  have nl := Nat.zero_le
  have hp0 := hp kd an ai dvKp.rfl
  unfold dvCm at hp hp0
  unfold wpDV_X6_compare
  refine ⟨⟨nl _, nl _⟩, CDV_at C V.1.2 (fun q => ⟨⟨nl _, nl _⟩, CDV_at C V.1.2 (fun _ => ⟨fun _ => ⟨nl _, nl _, ?_⟩, fun b e => (nomatch e)⟩) (fun _ _ _ _ => ⟨fun _ => ⟨nl _, nl _, ?_⟩, fun b e => (nomatch e)⟩)⟩) (fun a0 a1 r O1 => ⟨⟨nl _, nl _⟩, CDV_at C V.1.2 (fun q => ⟨fun e => (nomatch e), fun r2 e => ⟨fun _ => ⟨nl _, nl _, ?_⟩, fun b e => (nomatch e)⟩⟩) (fun b0 b1 s O2 => ⟨fun e => (nomatch e), fun r2 e => ⟨fun e => (nomatch e), fun s2 e2 => ?_⟩⟩)⟩)⟩
  · rw [if_pos (fun w => q w.1)] at hp0; exact hp0
  · rw [if_pos (fun w => q w.1)] at hp0; exact hp0
  · rw [if_pos (fun w => q w.2)] at hp0; exact hp0
  · cases e
    cases e2
    rw [if_neg (fun w => w ⟨⟨a0, a1⟩, b0, b1⟩)] at hp hp0
    have Va := (V.2 a a0 a1).1
    have Vb := (V.2 b b0 b1).1
    refine ⟨O1.kd' Va.1, 8, 24, by omega, ?_⟩
    have ha := Va.1
    have hb := Vb.1
    obtain ⟨_, K1⟩ := O1.cs ha
    unfold wpDDV_X69_compare_4_5_6_7_8
    rcases K1 with ⟨k, kr, -⟩ | ⟨k, kr, -⟩ | ⟨k, kr, -⟩ | ⟨k, kr, -⟩ | ⟨k, kr, -⟩
    · refine Or.inl ⟨kr, CDV_cmpN O1 O2 ⟨ha.1, k⟩ hb Va Vb (fun w _ => ⟨by omega, by omega, ?_⟩) (fun w _ => ⟨by omega, by omega, ?_⟩)⟩
      · rw [if_pos ⟨k, w⟩] at hp0; exact hp0
      · rw [if_neg (fun u => w u.2), if_neg (by omega), if_pos (by omega)] at hp0; exact hp0
    · refine Or.inr (Or.inl ⟨kr, CDV_cmpT O1 O2 k hb Va Vb (fun w _ => ⟨by omega, by omega, ?_⟩) (fun w _ => ⟨by omega, by omega, ?_⟩)⟩)
      · rw [if_neg (by omega), if_neg (by omega), if_neg (by omega), if_pos k] at hp0; exact hp0
      · rw [if_neg (by omega), if_neg (by omega), if_pos (by omega)] at hp0; exact hp0
    · refine Or.inr (Or.inr (Or.inl ⟨kr, CDV_cmpM O1 O2 k hb Va Vb (fun w _ => ⟨by omega, by omega, ?_⟩) (fun w _ => ⟨by omega, by omega, ?_⟩)⟩))
      · rw [if_neg (by omega), if_neg (by omega), if_neg (by omega), if_neg (by omega), if_neg (by omega)] at hp0; exact hp0
      · rw [if_neg (by omega), if_neg (by omega), if_pos (by omega)] at hp0; exact hp0
    · refine Or.inr (Or.inr (Or.inr (Or.inl ⟨kr, CDV_cmpS (by decide) O1 O2 k hb Va Vb (fun w kd' an' ai' kp _ => ⟨by omega, by omega, ?_⟩) (fun w _ => ⟨by omega, by omega, ?_⟩)⟩)))
      · have hp := hp _ _ _ kp
        rw [if_neg (by omega), if_neg (by omega), if_neg (by omega), if_neg (by omega), if_pos k] at hp; exact hp
      · rw [if_neg (by omega), if_neg (by omega), if_pos (by omega)] at hp0; exact hp0
    · refine Or.inr (Or.inr (Or.inr (Or.inr ⟨kr, CDV_cmpR O1 O2 ⟨k, ha.2⟩ hb Va Vb (fun w _ => ⟨by omega, by omega, ?_⟩) (fun w _ => ⟨by omega, by omega, ?_⟩)⟩)))
      · rw [if_neg (by omega), if_pos ⟨k, w⟩] at hp0; exact hp0
      · rw [if_neg (by omega), if_neg (fun u => w u.2), if_pos (by omega)] at hp0; exact hp0
end

/-! DatatypeValues, the component: reckoned -/
/-- a result: none, or an object that holds what the reference would keep -/
def dvRs (h : HpDV) (qt qw : Nat) (R : Int × Int × Int × Int) (r : Option Nat) : Prop := (r = none ∧ R.1 = -2) ∨ ∃ q row, r = some q ∧ R.1 = 0 ∧ (0 ≤ R.2.1 ∧ R.2.1 ≤ 6) ∧ dvO h qt qw q R.2.1 R.2.2.1 R.2.2.2 row
section
variable {kd : Nat → Nat} {an : Nat → Nat} {ai : Nat → Int → Int} {al : Nat → Int → Int} {ar : Nat → Int → Option Nat} {mX6_tape : Nat → Option Nat} {mX6_size : Nat → Int} {mX6_values : Nat → Option Nat} {mX6_count : Nat → Int} {mX6_writer : Nat → Option Nat} {mX7_bytes : Nat → Option Nat} {mX7_size : Nat → Int} {mX67_tape : Nat → Option Nat} {mX67_size : Nat → Int} {mX67_at : Nat → Int} {mX67_wrong : Nat → Option Nat} {mX67_place : Nat → Int} {mX68_kind : Nat → Int} {mX69_upper : Nat → Int} {mX69_lower : Nat → Int} {mX70_is : Nat → Int} {mX72_millis : Nat → Int} {mX72_zone : Nat → Int} {mX73_months : Nat → Int} {mX73_millis : Nat → Int} {mX74_bytes : Nat → Option Nat} {sa : Nat → Nat} {so : kSo} {qt qw x qv wr r s : Nat} {tp kn on tw bt o row row' : Int → Int} {sz c os v i n k one two k2 one' two' a b X Y u l op mo mi pp pq pr ps : Int} {MC MS kc ks : Nat}
theorem CDV_keepK {Q : Int → (Nat → Int → Option Nat) → (Nat → Int) → Prop} {R : Int × Int × Int × Int} {r' : Option Nat} (C : dvC (kd, an, ai, al, ar, mX6_tape, mX6_size, mX6_values, mX6_count, mX6_writer, mX7_bytes, mX7_size, mX67_tape, mX67_size, mX67_at, mX67_wrong, mX67_place, mX68_kind, mX69_upper, mX69_lower, mX70_is, mX72_millis, mX72_zone, mX73_months, mX73_millis, mX74_bytes) x qt qv wr qw tp sz c kn on tw bt os o) (V : dvVs c kn on tw bt) (hr : dvRs (kd, an, ai, al, ar, mX6_tape, mX6_size, mX6_values, mX6_count, mX6_writer, mX7_bytes, mX7_size, mX67_tape, mX67_size, mX67_at, mX67_wrong, mX67_place, mX68_kind, mX69_upper, mX69_lower, mX70_is, mX72_millis, mX72_zone, mX73_months, mX73_millis, mX74_bytes) qt qw R r') (H0 : R.1 < 0 → Q R.1 ar mX6_count) (H3 : 0 ≤ R.1 → c = 200 → Q (-3) ar mX6_count)
    (H1 : 0 ≤ R.1 → c < 200 → ∀ ar' cnt', dvC (kd, an, ai, al, (ar'), mX6_tape, mX6_size, mX6_values, (cnt'), mX6_writer, mX7_bytes, mX7_size, mX67_tape, mX67_size, mX67_at, mX67_wrong, mX67_place, mX68_kind, mX69_upper, mX69_lower, mX70_is, mX72_millis, mX72_zone, mX73_months, mX73_millis, mX74_bytes) x qt qv wr qw tp sz (c + 1) (updI kn c R.2.1) (updI on c R.2.2.1) (updI tw c R.2.2.2) bt os o → Q c ar' cnt') : wpDV_X6_keep Q kd an ar mX6_values mX6_count x r' := by
  have X : mX6_values x = some qv ∧ kd qv = 12 ∧ an qv = 200 ∧ mX6_count x = c := C.2.1
  rcases hr with ⟨e, z⟩ | ⟨q, row, e, z, hk, O⟩
  · refine CDV_keep V.1 X (fun _ => ?_) (fun _ w => absurd e w) (fun q w => by rw [e] at w; exact (nomatch w))
    rw [z] at H0
    exact H0 (by decide)
  · refine CDV_keep V.1 X (fun w => by rw [e] at w; exact (nomatch w)) (fun w _ => H3 (by omega) w) (fun q2 w cl => ?_)
    rw [e] at w
    cases w
    exact ⟨O.kd' (by omega), H1 (by omega) cl _ _ (dvC.put C V cl O (fun _ _ => rfl) (fun k6 => by omega))⟩
theorem CDV_r164 {post : Option Nat → (Nat → Nat) → (Nat → Int) → (Nat → Int) → (Nat → Int) → Prop} (hM : kc + 1 ≤ MC ∧ ks + 3 ≤ MS) (hu : -9000000000000000000 ≤ u ∧ u ≤ 9000000000000000000) (hl : 0 < l ∧ l ≤ 9000000000000000000) (H : ∀ r' kd' K' U' L', dvKp (kd, an, ai, al, ar, mX6_tape, mX6_size, mX6_values, mX6_count, mX6_writer, mX7_bytes, mX7_size, mX67_tape, mX67_size, mX67_at, mX67_wrong, mX67_place, mX68_kind, mX69_upper, mX69_lower, mX70_is, mX72_millis, mX72_zone, mX73_months, mX73_millis, mX74_bytes) ((kd'), an, ai, al, ar, mX6_tape, mX6_size, mX6_values, mX6_count, mX6_writer, mX7_bytes, mX7_size, mX67_tape, mX67_size, mX67_at, mX67_wrong, mX67_place, (K'), (U'), (L'), mX70_is, mX72_millis, mX72_zone, mX73_months, mX73_millis, mX74_bytes) → dvRs ((kd'), an, ai, al, ar, mX6_tape, mX6_size, mX6_values, mX6_count, mX6_writer, mX7_bytes, mX7_size, mX67_tape, mX67_size, mX67_at, mX67_wrong, mX67_place, (K'), (U'), (L'), mX70_is, mX72_millis, mX72_zone, mX73_months, mX73_millis, mX74_bytes) qt qw (dvKf u l) r' → post r' kd' K' U' L') : wDV_X6_reckon_164 MC MS post u l kd mX68_kind mX69_upper mX69_lower kc ks := by
  have G := dvGc_b (x := u) hl.1
  have tl := dv_tl (x := u) G.1
  unfold wDV_X6_reckon_164
  refine ⟨hM, fun q hq K eK U eU L eL => ⟨hM, CDV_ninit hu hl ?_⟩⟩
  rw [eK, eU, eL, va_up_up, va_up_up, va_up_up, va_up_self, va_up_self]
  unfold dvKf at H
  generalize dvGc u l = g at G tl H ⊢
  generalize Int.tdiv u g = t at tl H ⊢
  generalize Int.tdiv l g = t' at H ⊢
  have kp : dvKp (kd, an, ai, al, ar, mX6_tape, mX6_size, mX6_values, mX6_count, mX6_writer, mX7_bytes, mX7_size, mX67_tape, mX67_size, mX67_at, mX67_wrong, mX67_place, mX68_kind, mX69_upper, mX69_lower, mX70_is, mX72_millis, mX72_zone, mX73_months, mX73_millis, mX74_bytes) ((va_up kd q 4), an, ai, al, ar, mX6_tape, mX6_size, mX6_values, mX6_count, mX6_writer, mX7_bytes, mX7_size, mX67_tape, mX67_size, mX67_at, mX67_wrong, mX67_place, (va_up mX68_kind q 2), (va_up mX69_upper q t), (va_up mX69_lower q t'), mX70_is, mX72_millis, mX72_zone, mX73_months, mX73_millis, mX74_bytes) := dvKp.n1 hq
  have H := fun r' => H r' _ _ _ _ kp
  have nay : ¬ (-1000000000 < t ∧ t < 1000000000 ∧ t' < 1000000000) → post none (va_up kd q 4) (va_up mX68_kind q 2) (va_up mX69_upper q t) (va_up mX69_lower q t') := fun w => H none (Or.inl ⟨rfl, by rw [if_neg w]; rfl⟩)
  refine ⟨hM, by omega, fun w => ⟨hM.1, hM.2, nay (fun z => ?_)⟩, fun w => ⟨fun w2 => ⟨hM.1, hM.2, nay (by omega)⟩, fun w2 => ⟨hM.1, hM.2, H (some q) (Or.inr ⟨q, fun _ => 0, rfl, ?_⟩)⟩⟩⟩
  · by_cases p : 0 < t
    · rw [if_pos p] at w; omega
    · rw [if_neg p] at w; omega
  · have tb : -1000000000 < t ∧ t < 1000000000 := by
      by_cases p : 0 < t
      · rw [if_pos p] at w; omega
      · rw [if_neg p] at w; omega
    rw [if_pos ⟨tb.1, tb.2, by omega⟩]
    refine ⟨rfl, ⟨by show (0 : Int) ≤ 2; decide, by show (2 : Int) ≤ 6; decide⟩, ?_⟩
    unfold dvO
    dsimp only [HpDV.kd, HpDV.an, HpDV.ai, HpDV.al, HpDV.ar, HpDV.mX6_tape, HpDV.mX6_size, HpDV.mX6_values, HpDV.mX6_count, HpDV.mX6_writer, HpDV.mX7_bytes, HpDV.mX7_size, HpDV.mX67_tape, HpDV.mX67_size, HpDV.mX67_at, HpDV.mX67_wrong, HpDV.mX67_place, HpDV.mX68_kind, HpDV.mX69_upper, HpDV.mX69_lower, HpDV.mX70_is, HpDV.mX72_millis, HpDV.mX72_zone, HpDV.mX73_months, HpDV.mX73_millis, HpDV.mX74_bytes]
    exact ⟨va_up_self _ _ _, fun _ => ⟨va_up_self _ _ _, va_up_self _ _ _, va_up_self _ _ _⟩, fun q => absurd q (by decide), fun q => absurd q (by decide), fun q => absurd q (by decide), fun q => absurd q (by decide)⟩
theorem CDV_sgn {post : Int → Prop} (hx : -4000000000000000000 ≤ X ∧ X ≤ 4000000000000000000) (h1 : 0 < X → post 1) (h2 : X < 0 → post (-1)) (h0 : X = 0 → post 0) : wpDV_J21_signum post X := by
  have e1 : zLor 0 1 = 1 := by decide
  have e2 : zLor (-1) 0 = -1 := by decide
  have e0 : zLor 0 0 = 0 := by decide
  unfold wpDV_J21_signum
  by_cases p : 0 < X
  · rw [show X / 9223372036854775808 = 0 by omega, show (-X) % 18446744073709551616 / 9223372036854775808 = 1 by omega, e1]
    exact ⟨by omega, by decide, h1 p⟩
  · by_cases z : X = 0
    · rw [z, show (0 : Int) / 9223372036854775808 = 0 by decide, show (-(0 : Int)) % 18446744073709551616 / 9223372036854775808 = 0 by decide, e0]
      exact ⟨by decide, by decide, h0 z⟩
    · rw [show X / 9223372036854775808 = -1 by omega, show (-X) % 18446744073709551616 / 9223372036854775808 = 0 by omega, e2]
      exact ⟨by omega, by decide, h2 (by omega)⟩
theorem CDV_reckon {post : Option Nat → (Nat → Nat) → (Nat → Int) → (Nat → Int) → (Nat → Int) → Prop} (hM : 1 ≤ MC ∧ 3 ≤ MS) (ho : 0 ≤ op ∧ op < 4) (r1 : kd r = 4 ∧ mX69_upper r = pp ∧ mX69_lower r = pq) (r2 : kd s = 4 ∧ mX69_upper s = pr ∧ mX69_lower s = ps) (a1 : -1000000000 < pp ∧ pp < 1000000000) (a2 : 0 < pq ∧ pq < 1000000000) (b1 : -1000000000 < pr ∧ pr < 1000000000) (b2 : 0 < ps ∧ ps < 1000000000)
    (H : ∀ r' kd' K' U' L', dvKp (kd, an, ai, al, ar, mX6_tape, mX6_size, mX6_values, mX6_count, mX6_writer, mX7_bytes, mX7_size, mX67_tape, mX67_size, mX67_at, mX67_wrong, mX67_place, mX68_kind, mX69_upper, mX69_lower, mX70_is, mX72_millis, mX72_zone, mX73_months, mX73_millis, mX74_bytes) ((kd'), an, ai, al, ar, mX6_tape, mX6_size, mX6_values, mX6_count, mX6_writer, mX7_bytes, mX7_size, mX67_tape, mX67_size, mX67_at, mX67_wrong, mX67_place, (K'), (U'), (L'), mX70_is, mX72_millis, mX72_zone, mX73_months, mX73_millis, mX74_bytes) → dvRs ((kd'), an, ai, al, ar, mX6_tape, mX6_size, mX6_values, mX6_count, mX6_writer, mX7_bytes, mX7_size, mX67_tape, mX67_size, mX67_at, mX67_wrong, mX67_place, (K'), (U'), (L'), mX70_is, mX72_millis, mX72_zone, mX73_months, mX73_millis, mX74_bytes) qt qw (dvRk op pp pq pr ps) r' → post r' kd' K' U' L') : wpDV_X6_reckon MC MS post kd mX68_kind mX69_upper mX69_lower op (some r) (some s) := by
  have nl := Nat.zero_le
  obtain ⟨r10, r11, r12⟩ := r1
  obtain ⟨r20, r21, r22⟩ := r2
  have ps' := dv_m (x := pp) (y := ps) (by omega) (by omega)
  have rq := dv_m (x := pr) (y := pq) (by omega) (by omega)
  have pr' := dv_m (x := pp) (y := pr) (by omega) (by omega)
  have qs := dv_m (x := pq) (y := ps) (by omega) (by omega)
  have qs0 := Int.mul_pos a2.1 b2.1
  have M0 : 0 + 1 ≤ MC ∧ 0 + 3 ≤ MS := by omega
  unfold dvRk at H
  unfold wpDV_X6_reckon
  refine ⟨fun e => ?_, fun e => ⟨fun e1 => ?_, fun e1 => ⟨fun e2 => ?_, fun e2 => ?_⟩⟩⟩
  · rw [if_pos e] at H
    refine kOn_some ⟨r10, kOn_some ⟨r20, ?_⟩⟩
    rw [r11, r12, r21, r22]
    refine ⟨by omega, fun u eu => ⟨by omega, fun l el => ?_⟩⟩
    rw [eu, el]
    exact CDV_r164 (kd := kd) (an := an) (ai := ai) (al := al) (ar := ar) (mX6_tape := mX6_tape) (mX6_size := mX6_size) (mX6_values := mX6_values) (mX6_count := mX6_count) (mX6_writer := mX6_writer) (mX7_bytes := mX7_bytes) (mX7_size := mX7_size) (mX67_tape := mX67_tape) (mX67_size := mX67_size) (mX67_at := mX67_at) (mX67_wrong := mX67_wrong) (mX67_place := mX67_place) (mX68_kind := mX68_kind) (mX69_upper := mX69_upper) (mX69_lower := mX69_lower) (mX70_is := mX70_is) (mX72_millis := mX72_millis) (mX72_zone := mX72_zone) (mX73_months := mX73_months) (mX73_millis := mX73_millis) (mX74_bytes := mX74_bytes) (qt := qt) (qw := qw) M0 (by omega) (by omega) H
  · rw [if_neg e, if_pos e1] at H
    refine kOn_some ⟨r10, kOn_some ⟨r20, ?_⟩⟩
    rw [r11, r12, r21, r22]
    refine ⟨by omega, fun u eu => ⟨by omega, fun l el => ?_⟩⟩
    rw [eu, el]
    exact CDV_r164 (kd := kd) (an := an) (ai := ai) (al := al) (ar := ar) (mX6_tape := mX6_tape) (mX6_size := mX6_size) (mX6_values := mX6_values) (mX6_count := mX6_count) (mX6_writer := mX6_writer) (mX7_bytes := mX7_bytes) (mX7_size := mX7_size) (mX67_tape := mX67_tape) (mX67_size := mX67_size) (mX67_at := mX67_at) (mX67_wrong := mX67_wrong) (mX67_place := mX67_place) (mX68_kind := mX68_kind) (mX69_upper := mX69_upper) (mX69_lower := mX69_lower) (mX70_is := mX70_is) (mX72_millis := mX72_millis) (mX72_zone := mX72_zone) (mX73_months := mX73_months) (mX73_millis := mX73_millis) (mX74_bytes := mX74_bytes) (qt := qt) (qw := qw) M0 (by omega) (by omega) H
  · rw [if_neg e, if_neg e1, if_pos e2] at H
    refine kOn_some ⟨r10, kOn_some ⟨r20, ?_⟩⟩
    rw [r11, r12, r21, r22]
    refine ⟨by omega, fun u eu => ⟨by omega, fun l el => ?_⟩⟩
    rw [eu, el]
    exact CDV_r164 (kd := kd) (an := an) (ai := ai) (al := al) (ar := ar) (mX6_tape := mX6_tape) (mX6_size := mX6_size) (mX6_values := mX6_values) (mX6_count := mX6_count) (mX6_writer := mX6_writer) (mX7_bytes := mX7_bytes) (mX7_size := mX7_size) (mX67_tape := mX67_tape) (mX67_size := mX67_size) (mX67_at := mX67_at) (mX67_wrong := mX67_wrong) (mX67_place := mX67_place) (mX68_kind := mX68_kind) (mX69_upper := mX69_upper) (mX69_lower := mX69_lower) (mX70_is := mX70_is) (mX72_millis := mX72_millis) (mX72_zone := mX72_zone) (mX73_months := mX73_months) (mX73_millis := mX73_millis) (mX74_bytes := mX74_bytes) (qt := qt) (qw := qw) M0 (by omega) (by omega) H
  · rw [if_neg e, if_neg e1, if_neg e2] at H
    refine kOn_some ⟨r20, ?_⟩
    rw [r21, r22]
    refine ⟨fun z => ⟨nl _, nl _, ?_⟩, fun z => kOn_some ⟨r10, ?_⟩⟩
    · rw [if_pos z] at H
      exact H none _ _ _ _ dvKp.rfl (Or.inl ⟨rfl, rfl⟩)
    · rw [if_neg z] at H
      rw [r11, r12]
      refine ⟨⟨nl _, nl _⟩, CDV_sgn (by omega) (fun p => ?_) (fun p => ?_) (fun p => absurd p z)⟩
      · have rq0 := Int.mul_pos p a2.1
        rw [if_neg (show ¬ pr < 0 by omega)] at H
        rw [if_pos p, Int.mul_one, Int.mul_comm pq pr]
        refine ⟨by omega, fun u eu => ⟨⟨nl _, nl _⟩, by omega, by omega, fun l el => ?_⟩⟩
        rw [eu, el]
        exact CDV_r164 (kd := kd) (an := an) (ai := ai) (al := al) (ar := ar) (mX6_tape := mX6_tape) (mX6_size := mX6_size) (mX6_values := mX6_values) (mX6_count := mX6_count) (mX6_writer := mX6_writer) (mX7_bytes := mX7_bytes) (mX7_size := mX7_size) (mX67_tape := mX67_tape) (mX67_size := mX67_size) (mX67_at := mX67_at) (mX67_wrong := mX67_wrong) (mX67_place := mX67_place) (mX68_kind := mX68_kind) (mX69_upper := mX69_upper) (mX69_lower := mX69_lower) (mX70_is := mX70_is) (mX72_millis := mX72_millis) (mX72_zone := mX72_zone) (mX73_months := mX73_months) (mX73_millis := mX73_millis) (mX74_bytes := mX74_bytes) (qt := qt) (qw := qw) M0 (by omega) (by omega) H
      · have n1 : -pp * ps = -(pp * ps) := Int.neg_mul _ _
        have n2 : -pr * pq = -(pr * pq) := Int.neg_mul _ _
        have rq0 := Int.mul_pos (show 0 < -pr by omega) a2.1
        rw [if_pos p, n1, n2] at H
        rw [if_neg (show ¬ 0 < pr by omega), show pq * -pr = -(pr * pq) by rw [Int.mul_neg, Int.mul_comm], show pp * ps * -1 = -(pp * ps) by rw [Int.mul_neg, Int.mul_one]]
        refine ⟨by omega, fun u eu => ⟨⟨nl _, nl _⟩, by omega, by omega, fun l el => ?_⟩⟩
        rw [eu, el]
        exact CDV_r164 (kd := kd) (an := an) (ai := ai) (al := al) (ar := ar) (mX6_tape := mX6_tape) (mX6_size := mX6_size) (mX6_values := mX6_values) (mX6_count := mX6_count) (mX6_writer := mX6_writer) (mX7_bytes := mX7_bytes) (mX7_size := mX7_size) (mX67_tape := mX67_tape) (mX67_size := mX67_size) (mX67_at := mX67_at) (mX67_wrong := mX67_wrong) (mX67_place := mX67_place) (mX68_kind := mX68_kind) (mX69_upper := mX69_upper) (mX69_lower := mX69_lower) (mX70_is := mX70_is) (mX72_millis := mX72_millis) (mX72_zone := mX72_zone) (mX73_months := mX73_months) (mX73_millis := mX73_millis) (mX74_bytes := mX74_bytes) (qt := qt) (qw := qw) M0 (by omega) (by omega) H
theorem CDV_spanOf {post : Option Nat → (Nat → Nat) → (Nat → Int) → (Nat → Int) → (Nat → Int) → Prop} (hM : 1 ≤ MC ∧ 3 ≤ MS) (hm : -4000000000 ≤ mo ∧ mo ≤ 4000000000) (hi : -4000000000000000 ≤ mi ∧ mi ≤ 4000000000000000) (H : ∀ r' kd' K' M' N', dvKp (kd, an, ai, al, ar, mX6_tape, mX6_size, mX6_values, mX6_count, mX6_writer, mX7_bytes, mX7_size, mX67_tape, mX67_size, mX67_at, mX67_wrong, mX67_place, mX68_kind, mX69_upper, mX69_lower, mX70_is, mX72_millis, mX72_zone, mX73_months, mX73_millis, mX74_bytes) ((kd'), an, ai, al, ar, mX6_tape, mX6_size, mX6_values, mX6_count, mX6_writer, mX7_bytes, mX7_size, mX67_tape, mX67_size, mX67_at, mX67_wrong, mX67_place, (K'), mX69_upper, mX69_lower, mX70_is, mX72_millis, mX72_zone, (M'), (N'), mX74_bytes) → dvRs ((kd'), an, ai, al, ar, mX6_tape, mX6_size, mX6_values, mX6_count, mX6_writer, mX7_bytes, mX7_size, mX67_tape, mX67_size, mX67_at, mX67_wrong, mX67_place, (K'), mX69_upper, mX69_lower, mX70_is, mX72_millis, mX72_zone, (M'), (N'), mX74_bytes) qt qw (dvKs mo mi) r' → post r' kd' K' M' N') : wpDV_X6_span MC MS post kd mX68_kind mX73_months mX73_millis mo mi := by
  have nl := Nat.zero_le
  have am : 1000000000 ≤ (if 0 < mo then mo else -mo) ↔ ¬ (-1000000000 < mo ∧ mo < 1000000000) := by
    by_cases p : 0 < mo
    · rw [if_pos p]; omega
    · rw [if_neg p]; omega
  have ai' : 1000000000000000 ≤ (if 0 < mi then mi else -mi) ↔ ¬ (-1000000000000000 < mi ∧ mi < 1000000000000000) := by
    by_cases p : 0 < mi
    · rw [if_pos p]; omega
    · rw [if_neg p]; omega
  unfold dvKs at H
  unfold wpDV_X6_span
  refine ⟨⟨nl _, nl _⟩, by omega, fun w => ⟨nl _, nl _, ?_⟩, fun w => ⟨by omega, fun w2 => ⟨nl _, nl _, ?_⟩, fun w2 => ⟨by omega, fun q hq K eK M eM N eN => ⟨by omega, ?_⟩⟩⟩⟩
  · exact H none _ _ _ _ dvKp.rfl (Or.inl ⟨rfl, by rw [if_neg (fun z => am.1 w z.1)]; rfl⟩)
  · exact H none _ _ _ _ dvKp.rfl (Or.inl ⟨rfl, by rw [if_neg (fun z => ai'.1 w2 z.2)]; rfl⟩)
  · have m1 : -1000000000 < mo ∧ mo < 1000000000 := Classical.not_not.mp (fun z => w (am.2 z))
    have m2 : -1000000000000000 < mi ∧ mi < 1000000000000000 := Classical.not_not.mp (fun z => w2 (ai'.2 z))
    unfold wpDV_X73_init wpDV_X68_init
    intro K2 eK2 M2 eM2 N2 eN2
    rw [eK, va_up_up] at eK2
    rw [eM, va_up_up] at eM2
    rw [eN, va_up_up] at eN2
    subst eK2 eM2 eN2
    refine ⟨by omega, by omega, H (some q) _ _ _ _ (dvKp.n4 hq) (Or.inr ⟨q, fun _ => 0, rfl, ?_⟩)⟩
    rw [if_pos ⟨m1, m2⟩]
    refine ⟨rfl, ⟨by show (0 : Int) ≤ 6; decide, by show (6 : Int) ≤ 6; decide⟩, ?_⟩
    unfold dvO
    dsimp only [HpDV.kd, HpDV.an, HpDV.ai, HpDV.al, HpDV.ar, HpDV.mX6_tape, HpDV.mX6_size, HpDV.mX6_values, HpDV.mX6_count, HpDV.mX6_writer, HpDV.mX7_bytes, HpDV.mX7_size, HpDV.mX67_tape, HpDV.mX67_size, HpDV.mX67_at, HpDV.mX67_wrong, HpDV.mX67_place, HpDV.mX68_kind, HpDV.mX69_upper, HpDV.mX69_lower, HpDV.mX70_is, HpDV.mX72_millis, HpDV.mX72_zone, HpDV.mX73_months, HpDV.mX73_millis, HpDV.mX74_bytes]
    exact ⟨va_up_self _ _ _, fun q => absurd q (by decide), fun q => absurd q (by decide), fun q => absurd q (by decide), fun _ => ⟨va_up_self _ _ _, va_up_self _ _ _, va_up_self _ _ _⟩, fun q => absurd q (by decide)⟩
theorem CDV_b15 {post : Option Nat → (Nat → Nat) → (Nat → Int) → (Nat → Int) → (Nat → Int) → Prop} {y0 : Int} (hM : 1 ≤ MC ∧ 3 ≤ MS) (e0 : kd r = 6) (e1 : mX72_millis r = on a) (e2 : mX72_zone r = tw a) (f0 : kd s = 6) (f1 : mX72_millis s = on b) (f2 : mX72_zone s = tw b) (A1 : -1000000000000000 ≤ on a ∧ on a ≤ 1000000000000000) (A2 : -1000000 ≤ tw a ∧ tw a ≤ 1000000) (B1 : -1000000000000000 ≤ on b ∧ on b ≤ 1000000000000000) (B2 : -1000000 ≤ tw b ∧ tw b ≤ 1000000)
    (hy : (y0 = 1 ∧ tw a = 10000) ∨ (y0 = 0 ∧ ¬ tw a = 10000)) (H : ∀ r' kd' K' M' N', dvKp (kd, an, ai, al, ar, mX6_tape, mX6_size, mX6_values, mX6_count, mX6_writer, mX7_bytes, mX7_size, mX67_tape, mX67_size, mX67_at, mX67_wrong, mX67_place, mX68_kind, mX69_upper, mX69_lower, mX70_is, mX72_millis, mX72_zone, mX73_months, mX73_millis, mX74_bytes) ((kd'), an, ai, al, ar, mX6_tape, mX6_size, mX6_values, mX6_count, mX6_writer, mX7_bytes, mX7_size, mX67_tape, mX67_size, mX67_at, mX67_wrong, mX67_place, (K'), mX69_upper, mX69_lower, mX70_is, mX72_millis, mX72_zone, (M'), (N'), mX74_bytes) → dvRs ((kd'), an, ai, al, ar, mX6_tape, mX6_size, mX6_values, mX6_count, mX6_writer, mX7_bytes, mX7_size, mX67_tape, mX67_size, mX67_at, mX67_wrong, mX67_place, (K'), mX69_upper, mX69_lower, mX70_is, mX72_millis, mX72_zone, (M'), (N'), mX74_bytes) qt qw (if (tw a = 10000) ↔ (tw b = 10000) then dvKs 0 (dvPt on tw a - dvPt on tw b) else dvNo) r' → post r' kd' K' M' N') : wDV_X6_between_15 MC MS post (some r) (some s) y0 kd an mX68_kind mX72_millis mX72_zone mX73_months mX73_millis 0 0 := by
  have nl := Nat.zero_le
  have pa : -1100000000000000 ≤ dvPt on tw a ∧ dvPt on tw a ≤ 1100000000000000 := by unfold dvPt; split <;> omega
  have pb : -1100000000000000 ≤ dvPt on tw b ∧ dvPt on tw b ≤ 1100000000000000 := by unfold dvPt; split <;> omega
  have i1 : tw b = 10000 → y0 = 1 → ((tw a = 10000) ↔ (tw b = 10000)) := fun u w => by omega
  have i2 : tw b = 10000 → ¬ y0 = 1 → ¬ ((tw a = 10000) ↔ (tw b = 10000)) := fun u w => by omega
  have i3 : ¬ tw b = 10000 → y0 = 0 → ((tw a = 10000) ↔ (tw b = 10000)) := fun u w => by omega
  have i4 : ¬ tw b = 10000 → ¬ y0 = 0 → ¬ ((tw a = 10000) ↔ (tw b = 10000)) := fun u w => by omega
  have dd : zL (dvPt on tw a - dvPt on tw b) := by omega
  have nay : ¬ ((tw a = 10000) ↔ (tw b = 10000)) → post none kd mX68_kind mX73_months mX73_millis := fun w => H none _ _ _ _ dvKp.rfl (Or.inl ⟨rfl, by rw [if_neg w]; rfl⟩)
  have yea : ((tw a = 10000) ↔ (tw b = 10000)) → ∃ mc ms : Nat, (0 + mc ≤ MC ∧ 0 + ms ≤ MS) ∧ wpDV_X6_span mc ms (fun (r_17 : Option Nat) (kd_18 : Nat → Nat) (k19 : Nat → Int) (m20 : Nat → Int) (m21 : Nat → Int) => kLe kd an kd_18 an → (0 + mc ≤ MC ∧ 0 + ms ≤ MS ∧ post r_17 kd_18 k19 m20 m21)) kd mX68_kind mX73_months mX73_millis 0 (dvPt on tw a - dvPt on tw b) := fun w => by
    rw [if_pos w] at H
    exact ⟨1, 3, by omega, CDV_spanOf (kd := kd) (an := an) (ai := ai) (al := al) (ar := ar) (mX6_tape := mX6_tape) (mX6_size := mX6_size) (mX6_values := mX6_values) (mX6_count := mX6_count) (mX6_writer := mX6_writer) (mX7_bytes := mX7_bytes) (mX7_size := mX7_size) (mX67_tape := mX67_tape) (mX67_size := mX67_size) (mX67_at := mX67_at) (mX67_wrong := mX67_wrong) (mX67_place := mX67_place) (mX68_kind := mX68_kind) (mX69_upper := mX69_upper) (mX69_lower := mX69_lower) (mX70_is := mX70_is) (mX72_millis := mX72_millis) (mX72_zone := mX72_zone) (mX73_months := mX73_months) (mX73_millis := mX73_millis) (mX74_bytes := mX74_bytes) (qt := qt) (qw := qw) (by decide) (by decide) (by omega) (fun r' kd' K' M' N' kp R _ => ⟨by omega, by omega, H _ _ _ _ _ kp R⟩)⟩
  unfold wDV_X6_between_15
  refine kOn_some ⟨f0, ?_⟩
  rw [f2]
  refine ⟨fun tb => ⟨fun y1 => kOn_some ⟨e0, ⟨nl _, nl _⟩, CDV_point e1 e2 A1 A2 ⟨⟨nl _, nl _⟩, CDV_point f1 f2 B1 B2 ⟨dd, yea (i1 tb y1)⟩⟩⟩, fun y1 => ⟨nl _, nl _, nay (i2 tb y1)⟩⟩, fun tb => ⟨fun y1 => kOn_some ⟨e0, ⟨nl _, nl _⟩, CDV_point e1 e2 A1 A2 ⟨⟨nl _, nl _⟩, CDV_point f1 f2 B1 B2 ⟨dd, yea (i3 tb y1)⟩⟩⟩, fun y1 => ⟨nl _, nl _, nay (i4 tb y1)⟩⟩⟩
theorem CDV_between {post : Option Nat → (Nat → Nat) → (Nat → Int) → (Nat → Int) → (Nat → Int) → Prop} (hM : 1 ≤ MC ∧ 3 ≤ MS) (e0 : kd r = 6) (e1 : mX72_millis r = on a) (e2 : mX72_zone r = tw a) (f0 : kd s = 6) (f1 : mX72_millis s = on b) (f2 : mX72_zone s = tw b) (A1 : -1000000000000000 ≤ on a ∧ on a ≤ 1000000000000000) (A2 : -1000000 ≤ tw a ∧ tw a ≤ 1000000) (B1 : -1000000000000000 ≤ on b ∧ on b ≤ 1000000000000000) (B2 : -1000000 ≤ tw b ∧ tw b ≤ 1000000)
    (H : ∀ r' kd' K' M' N', dvKp (kd, an, ai, al, ar, mX6_tape, mX6_size, mX6_values, mX6_count, mX6_writer, mX7_bytes, mX7_size, mX67_tape, mX67_size, mX67_at, mX67_wrong, mX67_place, mX68_kind, mX69_upper, mX69_lower, mX70_is, mX72_millis, mX72_zone, mX73_months, mX73_millis, mX74_bytes) ((kd'), an, ai, al, ar, mX6_tape, mX6_size, mX6_values, mX6_count, mX6_writer, mX7_bytes, mX7_size, mX67_tape, mX67_size, mX67_at, mX67_wrong, mX67_place, (K'), mX69_upper, mX69_lower, mX70_is, mX72_millis, mX72_zone, (M'), (N'), mX74_bytes) → dvRs ((kd'), an, ai, al, ar, mX6_tape, mX6_size, mX6_values, mX6_count, mX6_writer, mX7_bytes, mX7_size, mX67_tape, mX67_size, mX67_at, mX67_wrong, mX67_place, (K'), mX69_upper, mX69_lower, mX70_is, mX72_millis, mX72_zone, (M'), (N'), mX74_bytes) qt qw (if (tw a = 10000) ↔ (tw b = 10000) then dvKs 0 (dvPt on tw a - dvPt on tw b) else dvNo) r' → post r' kd' K' M' N') : wpDV_X6_between MC MS post kd an mX68_kind mX72_millis mX72_zone mX73_months mX73_millis (some r) (some s) := by
  unfold wpDV_X6_between
  refine kOn_some ⟨e0, ?_⟩
  rw [e2]
  exact ⟨fun t => CDV_b15 (kd := kd) (an := an) (ai := ai) (al := al) (ar := ar) (mX6_tape := mX6_tape) (mX6_size := mX6_size) (mX6_values := mX6_values) (mX6_count := mX6_count) (mX6_writer := mX6_writer) (mX7_bytes := mX7_bytes) (mX7_size := mX7_size) (mX67_tape := mX67_tape) (mX67_size := mX67_size) (mX67_at := mX67_at) (mX67_wrong := mX67_wrong) (mX67_place := mX67_place) (mX68_kind := mX68_kind) (mX69_upper := mX69_upper) (mX69_lower := mX69_lower) (mX70_is := mX70_is) (mX72_millis := mX72_millis) (mX72_zone := mX72_zone) (mX73_months := mX73_months) (mX73_millis := mX73_millis) (mX74_bytes := mX74_bytes) (qt := qt) (qw := qw) hM e0 e1 e2 f0 f1 f2 A1 A2 B1 B2 (Or.inl ⟨rfl, t⟩) H, fun t => CDV_b15 (kd := kd) (an := an) (ai := ai) (al := al) (ar := ar) (mX6_tape := mX6_tape) (mX6_size := mX6_size) (mX6_values := mX6_values) (mX6_count := mX6_count) (mX6_writer := mX6_writer) (mX7_bytes := mX7_bytes) (mX7_size := mX7_size) (mX67_tape := mX67_tape) (mX67_size := mX67_size) (mX67_at := mX67_at) (mX67_wrong := mX67_wrong) (mX67_place := mX67_place) (mX68_kind := mX68_kind) (mX69_upper := mX69_upper) (mX69_lower := mX69_lower) (mX70_is := mX70_is) (mX72_millis := mX72_millis) (mX72_zone := mX72_zone) (mX73_months := mX73_months) (mX73_millis := mX73_millis) (mX74_bytes := mX74_bytes) (qt := qt) (qw := qw) hM e0 e1 e2 f0 f1 f2 A1 A2 B1 B2 (Or.inr ⟨rfl, t⟩) H⟩
theorem CDV_a29 {post : Option Nat → (Nat → Nat) → (Nat → Nat) → (Nat → Int → Int) → (Nat → Int) → (Nat → Int) → (Nat → Int) → Prop} (hM : 2 ≤ MC ∧ 6 ≤ MS) (e0 : kd r = 6) (ek : mX68_kind r = kn a) (hk : kn a = 4 ∨ kn a = 5) (e1 : mX72_millis r = on a) (e2 : mX72_zone r = tw a) (f0 : kd s = 7) (f1 : mX73_months s = on b) (A1 : -1000000000000000 ≤ on a ∧ on a ≤ 1000000000000000) (B1 : -1000000000 < on b ∧ on b < 1000000000) (hm : mi = (if kn a = 4 then 86400000 * (tw b / 86400000) else tw b)) (B2 : -10000000000000000 ≤ mi ∧ mi ≤ 10000000000000000)
    (H : ∀ r' kd' an' ai' K' Z' Y', dvKp (kd, an, ai, al, ar, mX6_tape, mX6_size, mX6_values, mX6_count, mX6_writer, mX7_bytes, mX7_size, mX67_tape, mX67_size, mX67_at, mX67_wrong, mX67_place, mX68_kind, mX69_upper, mX69_lower, mX70_is, mX72_millis, mX72_zone, mX73_months, mX73_millis, mX74_bytes) ((kd'), (an'), (ai'), al, ar, mX6_tape, mX6_size, mX6_values, mX6_count, mX6_writer, mX7_bytes, mX7_size, mX67_tape, mX67_size, mX67_at, mX67_wrong, mX67_place, (K'), mX69_upper, mX69_lower, mX70_is, (Z'), (Y'), mX73_months, mX73_millis, mX74_bytes) → dvRs ((kd'), (an'), (ai'), al, ar, mX6_tape, mX6_size, mX6_values, mX6_count, mX6_writer, mX7_bytes, mX7_size, mX67_tape, mX67_size, mX67_at, mX67_wrong, mX67_place, (K'), mX69_upper, mX69_lower, mX70_is, (Z'), (Y'), mX73_months, mX73_millis, mX74_bytes) qt qw (dvAd kn on tw a b) r' → post r' kd' an' ai' K' Z' Y') : wDV_X6_added_29 MC MS post (some r) (some s) mi kd an ai mX68_kind mX72_millis mX72_zone mX73_months 0 0 := by
  unfold dvAd at H
  rw [← hm] at H
  unfold wDV_X6_added_29
  refine kOn_some ⟨e0, kOn_some ⟨f0, 1, 3, by omega, ?_⟩⟩
  rw [e1, f1]
  refine CDV_dadd (by decide) (by omega) (by omega) B2 (fun q D hq _ => ⟨by omega, CDV_of (by decide) (by decide) (by decide) ?_⟩)
  generalize dvLt (on a) (on b) mi = t at H ⊢
  have kp : dvKp (kd, an, ai, al, ar, mX6_tape, mX6_size, mX6_values, mX6_count, mX6_writer, mX7_bytes, mX7_size, mX67_tape, mX67_size, mX67_at, mX67_wrong, mX67_place, mX68_kind, mX69_upper, mX69_lower, mX70_is, mX72_millis, mX72_zone, mX73_months, mX73_millis, mX74_bytes) ((va_up kd q 9), (va_up an q 3), (va_up ai q D), al, ar, mX6_tape, mX6_size, mX6_values, mX6_count, mX6_writer, mX7_bytes, mX7_size, mX67_tape, mX67_size, mX67_at, mX67_wrong, mX67_place, mX68_kind, mX69_upper, mX69_lower, mX70_is, mX72_millis, mX72_zone, mX73_months, mX73_millis, mX74_bytes) := dvKp.d hq
  have rq : ¬ r = q := fun e => by rw [e, hq] at e0; exact absurd e0 (by decide)
  have nay : ¬ (86400000 * dvOf 1 1 1 ≤ t ∧ t < 86400000 * dvOf 10000 1 1) → wDV_X6_added_83 MC MS post (some r) t 0 (va_up kd q 9) (va_up an q 3) (va_up ai q D) mX68_kind mX72_millis mX72_zone (0 + 1) (0 + 3) := fun w => by
    unfold wDV_X6_added_83
    exact ⟨fun _ => ⟨by omega, by omega, H none _ _ _ _ _ _ kp (Or.inl ⟨rfl, by rw [if_neg w]; rfl⟩)⟩, fun w => absurd rfl w⟩
  have n1 : dvOf 1 1 1 = -719162 := by decide
  have n2 : dvOf 10000 1 1 = 2932897 := by decide
  refine ⟨by rw [n1]; decide, fun w => nay (by omega), fun w => ⟨by omega, CDV_of (by decide) (by decide) (by decide) ⟨by rw [n2]; decide, fun w2 => nay (by omega), fun w2 => ?_⟩⟩⟩
  unfold wDV_X6_added_83
  refine ⟨fun z => absurd z (by decide), fun _ => ⟨by omega, fun q2 hq2 K eK Z eZ Y eY => kOn_some ⟨?_, by omega, ?_⟩⟩⟩
  · have rq2 : ¬ r = q2 := fun e => by rw [← e, va_up_ne _ _ rq, e0] at hq2; exact absurd hq2 (by decide)
    rw [va_up_ne _ _ rq2, va_up_ne _ _ rq]; exact e0
  · have rq2 : ¬ r = q2 := fun e => by rw [← e, va_up_ne _ _ rq, e0] at hq2; exact absurd hq2 (by decide)
    have g1 : K r = kn a := by rw [eK, va_up_ne _ _ rq2]; exact ek
    have g2 : Y r = tw a := by rw [eY, va_up_ne _ _ rq2]; exact e2
    rw [g1, g2]
    unfold wpDV_X72_init wpDV_X68_init
    intro K2 eK2 Z2 eZ2 Y2 eY2
    rw [eK, va_up_up] at eK2
    rw [eZ, va_up_up] at eZ2
    rw [eY, va_up_up] at eY2
    subst eK2 eZ2 eY2
    refine ⟨by omega, by omega, H (some q2) _ _ _ _ _ _ (dvKp.trans kp (dvKp.n3 hq2)) (Or.inr ⟨q2, fun _ => 0, rfl, ?_⟩)⟩
    rw [if_pos ⟨by omega, by omega⟩]
    refine ⟨rfl, ⟨by show 0 ≤ kn a; omega, by show kn a ≤ 6; omega⟩, ?_⟩
    unfold dvO
    dsimp only [HpDV.kd, HpDV.an, HpDV.ai, HpDV.al, HpDV.ar, HpDV.mX6_tape, HpDV.mX6_size, HpDV.mX6_values, HpDV.mX6_count, HpDV.mX6_writer, HpDV.mX7_bytes, HpDV.mX7_size, HpDV.mX67_tape, HpDV.mX67_size, HpDV.mX67_at, HpDV.mX67_wrong, HpDV.mX67_place, HpDV.mX68_kind, HpDV.mX69_upper, HpDV.mX69_lower, HpDV.mX70_is, HpDV.mX72_millis, HpDV.mX72_zone, HpDV.mX73_months, HpDV.mX73_millis, HpDV.mX74_bytes]
    exact ⟨va_up_self _ _ _, fun q => by omega, fun q => by omega, fun _ => ⟨va_up_self _ _ _, va_up_self _ _ _, va_up_self _ _ _⟩, fun q => by omega, fun q => by omega⟩
theorem CDV_added {post : Option Nat → (Nat → Nat) → (Nat → Nat) → (Nat → Int → Int) → (Nat → Int) → (Nat → Int) → (Nat → Int) → Prop} (hM : 2 ≤ MC ∧ 6 ≤ MS) (e0 : kd r = 6) (ek : mX68_kind r = kn a) (hk : kn a = 4 ∨ kn a = 5) (e1 : mX72_millis r = on a) (e2 : mX72_zone r = tw a) (f0 : kd s = 7) (f1 : mX73_months s = on b) (f2 : mX73_millis s = tw b) (A1 : -1000000000000000 ≤ on a ∧ on a ≤ 1000000000000000) (B1 : -1000000000 < on b ∧ on b < 1000000000) (B2 : -1000000000000000 < tw b ∧ tw b < 1000000000000000)
    (H : ∀ r' kd' an' ai' K' Z' Y', dvKp (kd, an, ai, al, ar, mX6_tape, mX6_size, mX6_values, mX6_count, mX6_writer, mX7_bytes, mX7_size, mX67_tape, mX67_size, mX67_at, mX67_wrong, mX67_place, mX68_kind, mX69_upper, mX69_lower, mX70_is, mX72_millis, mX72_zone, mX73_months, mX73_millis, mX74_bytes) ((kd'), (an'), (ai'), al, ar, mX6_tape, mX6_size, mX6_values, mX6_count, mX6_writer, mX7_bytes, mX7_size, mX67_tape, mX67_size, mX67_at, mX67_wrong, mX67_place, (K'), mX69_upper, mX69_lower, mX70_is, (Z'), (Y'), mX73_months, mX73_millis, mX74_bytes) → dvRs ((kd'), (an'), (ai'), al, ar, mX6_tape, mX6_size, mX6_values, mX6_count, mX6_writer, mX7_bytes, mX7_size, mX67_tape, mX67_size, mX67_at, mX67_wrong, mX67_place, (K'), mX69_upper, mX69_lower, mX70_is, (Z'), (Y'), mX73_months, mX73_millis, mX74_bytes) qt qw (dvAd kn on tw a b) r' → post r' kd' an' ai' K' Z' Y') : wpDV_X6_added MC MS post kd an ai mX68_kind mX72_millis mX72_zone mX73_months mX73_millis (some r) (some s) := by
  have nl := Nat.zero_le
  unfold wpDV_X6_added
  refine kOn_some ⟨e0, ?_⟩
  rw [ek]
  refine ⟨fun k => kOn_some ⟨f0, ⟨nl _, nl _⟩, ?_⟩, fun k => kOn_some ⟨f0, ?_⟩⟩
  · rw [f2]
    exact CDV_floorDiv (by decide) (by omega) (by decide) ⟨by omega, CDV_a29 (kd := kd) (an := an) (ai := ai) (al := al) (ar := ar) (mX6_tape := mX6_tape) (mX6_size := mX6_size) (mX6_values := mX6_values) (mX6_count := mX6_count) (mX6_writer := mX6_writer) (mX7_bytes := mX7_bytes) (mX7_size := mX7_size) (mX67_tape := mX67_tape) (mX67_size := mX67_size) (mX67_at := mX67_at) (mX67_wrong := mX67_wrong) (mX67_place := mX67_place) (mX68_kind := mX68_kind) (mX69_upper := mX69_upper) (mX69_lower := mX69_lower) (mX70_is := mX70_is) (mX72_millis := mX72_millis) (mX72_zone := mX72_zone) (mX73_months := mX73_months) (mX73_millis := mX73_millis) (mX74_bytes := mX74_bytes) (qt := qt) (qw := qw) hM e0 ek hk e1 e2 f0 f1 A1 B1 (by rw [if_pos k]) (by omega) H⟩
  · rw [f2]
    exact CDV_a29 (kd := kd) (an := an) (ai := ai) (al := al) (ar := ar) (mX6_tape := mX6_tape) (mX6_size := mX6_size) (mX6_values := mX6_values) (mX6_count := mX6_count) (mX6_writer := mX6_writer) (mX7_bytes := mX7_bytes) (mX7_size := mX7_size) (mX67_tape := mX67_tape) (mX67_size := mX67_size) (mX67_at := mX67_at) (mX67_wrong := mX67_wrong) (mX67_place := mX67_place) (mX68_kind := mX68_kind) (mX69_upper := mX69_upper) (mX69_lower := mX69_lower) (mX70_is := mX70_is) (mX72_millis := mX72_millis) (mX72_zone := mX72_zone) (mX73_months := mX73_months) (mX73_millis := mX73_millis) (mX74_bytes := mX74_bytes) (qt := qt) (qw := qw) hM e0 ek hk e1 e2 f0 f1 A1 B1 (by rw [if_neg k]) (by omega) H
end

/-! DatatypeValues, the component: apply -/
/-- how a call that keeps a value ends: with a code, without room, or the value is kept -/
def dvAz (kd : Nat → Nat) (an : Nat → Nat) (ai : Nat → Int → Int) (al : Nat → Int → Int) (ar : Nat → Int → Option Nat) (mX6_tape : Nat → Option Nat) (mX6_size : Nat → Int) (mX6_values : Nat → Option Nat) (mX6_count : Nat → Int) (mX6_writer : Nat → Option Nat) (mX7_bytes : Nat → Option Nat) (mX7_size : Nat → Int) (mX67_tape : Nat → Option Nat) (mX67_size : Nat → Int) (mX67_at : Nat → Int) (mX67_wrong : Nat → Option Nat) (mX67_place : Nat → Int) (mX68_kind : Nat → Int) (mX69_upper : Nat → Int) (mX69_lower : Nat → Int) (mX70_is : Nat → Int) (mX72_millis : Nat → Int) (mX72_zone : Nat → Int) (mX73_months : Nat → Int) (mX73_millis : Nat → Int) (mX74_bytes : Nat → Option Nat) (post : Int → (Nat → Nat) → (Nat → Nat) → (Nat → Int → Int) → (Nat → Int → Option Nat) → (Nat → Int) → (Nat → Int) → (Nat → Int) → (Nat → Int) → (Nat → Int) → (Nat → Int) → (Nat → Int) → (Nat → Int) → Prop) (x qt qv wr qw : Nat) (tp : Int → Int) (sz c : Int) (kn on tw bt : Int → Int) (os : Int) (o : Int → Int) (R : Int × Int × Int × Int) : Prop :=
  (R.1 < 0 → ∀ kd an ai ar mX6_count mX68_kind mX69_upper mX69_lower mX72_millis mX72_zone mX73_months mX73_millis, dvC (kd, an, ai, al, ar, mX6_tape, mX6_size, mX6_values, mX6_count, mX6_writer, mX7_bytes, mX7_size, mX67_tape, mX67_size, mX67_at, mX67_wrong, mX67_place, mX68_kind, mX69_upper, mX69_lower, mX70_is, mX72_millis, mX72_zone, mX73_months, mX73_millis, mX74_bytes) x qt qv wr qw tp sz c kn on tw bt os o → post R.1 kd an ai ar mX6_count mX68_kind mX69_upper mX69_lower mX72_millis mX72_zone mX73_months mX73_millis) ∧
  (0 ≤ R.1 → c = 200 → ∀ kd an ai ar mX6_count mX68_kind mX69_upper mX69_lower mX72_millis mX72_zone mX73_months mX73_millis, dvC (kd, an, ai, al, ar, mX6_tape, mX6_size, mX6_values, mX6_count, mX6_writer, mX7_bytes, mX7_size, mX67_tape, mX67_size, mX67_at, mX67_wrong, mX67_place, mX68_kind, mX69_upper, mX69_lower, mX70_is, mX72_millis, mX72_zone, mX73_months, mX73_millis, mX74_bytes) x qt qv wr qw tp sz c kn on tw bt os o → post (-3) kd an ai ar mX6_count mX68_kind mX69_upper mX69_lower mX72_millis mX72_zone mX73_months mX73_millis) ∧
  (0 ≤ R.1 → c < 200 → ∀ kd an ai ar mX6_count mX68_kind mX69_upper mX69_lower mX72_millis mX72_zone mX73_months mX73_millis, dvC (kd, an, ai, al, ar, mX6_tape, mX6_size, mX6_values, mX6_count, mX6_writer, mX7_bytes, mX7_size, mX67_tape, mX67_size, mX67_at, mX67_wrong, mX67_place, mX68_kind, mX69_upper, mX69_lower, mX70_is, mX72_millis, mX72_zone, mX73_months, mX73_millis, mX74_bytes) x qt qv wr qw tp sz (c + 1) (updI kn c R.2.1) (updI on c R.2.2.1) (updI tw c R.2.2.2) bt os o → post c kd an ai ar mX6_count mX68_kind mX69_upper mX69_lower mX72_millis mX72_zone mX73_months mX73_millis)
section
variable {kd : Nat → Nat} {an : Nat → Nat} {ai : Nat → Int → Int} {al : Nat → Int → Int} {ar : Nat → Int → Option Nat} {mX6_tape : Nat → Option Nat} {mX6_size : Nat → Int} {mX6_values : Nat → Option Nat} {mX6_count : Nat → Int} {mX6_writer : Nat → Option Nat} {mX7_bytes : Nat → Option Nat} {mX7_size : Nat → Int} {mX67_tape : Nat → Option Nat} {mX67_size : Nat → Int} {mX67_at : Nat → Int} {mX67_wrong : Nat → Option Nat} {mX67_place : Nat → Int} {mX68_kind : Nat → Int} {mX69_upper : Nat → Int} {mX69_lower : Nat → Int} {mX70_is : Nat → Int} {mX72_millis : Nat → Int} {mX72_zone : Nat → Int} {mX73_months : Nat → Int} {mX73_millis : Nat → Int} {mX74_bytes : Nat → Option Nat} {sa : Nat → Nat} {so : kSo} {qt qw x qv wr r s : Nat} {tp kn on tw bt o row row' : Int → Int} {sz c os v i n k one two k2 one' two' a b X Y u l op mo mi : Int} {MC MS kc ks : Nat} {post : Int → (Nat → Nat) → (Nat → Nat) → (Nat → Int → Int) → (Nat → Int → Option Nat) → (Nat → Int) → (Nat → Int) → (Nat → Int) → (Nat → Int) → (Nat → Int) → (Nat → Int) → (Nat → Int) → (Nat → Int) → Prop} {R : Int × Int × Int × Int}
theorem CDV_apK {r' : Option Nat} {kd' an' : Nat → Nat} {ai' : Nat → Int → Int} {K' U' L' Z' Y' M' N' : Nat → Int} (hk : kc ≤ MC ∧ ks ≤ MS) (C : dvC (kd, an, ai, al, ar, mX6_tape, mX6_size, mX6_values, mX6_count, mX6_writer, mX7_bytes, mX7_size, mX67_tape, mX67_size, mX67_at, mX67_wrong, mX67_place, mX68_kind, mX69_upper, mX69_lower, mX70_is, mX72_millis, mX72_zone, mX73_months, mX73_millis, mX74_bytes) x qt qv wr qw tp sz c kn on tw bt os o) (V : dvVs c kn on tw bt) (A : dvAz kd an ai al ar mX6_tape mX6_size mX6_values mX6_count mX6_writer mX7_bytes mX7_size mX67_tape mX67_size mX67_at mX67_wrong mX67_place mX68_kind mX69_upper mX69_lower mX70_is mX72_millis mX72_zone mX73_months mX73_millis mX74_bytes post x qt qv wr qw tp sz c kn on tw bt os o R) (kp : dvKp (kd, an, ai, al, ar, mX6_tape, mX6_size, mX6_values, mX6_count, mX6_writer, mX7_bytes, mX7_size, mX67_tape, mX67_size, mX67_at, mX67_wrong, mX67_place, mX68_kind, mX69_upper, mX69_lower, mX70_is, mX72_millis, mX72_zone, mX73_months, mX73_millis, mX74_bytes) ((kd'), (an'), (ai'), al, ar, mX6_tape, mX6_size, mX6_values, mX6_count, mX6_writer, mX7_bytes, mX7_size, mX67_tape, mX67_size, mX67_at, mX67_wrong, mX67_place, (K'), (U'), (L'), mX70_is, (Z'), (Y'), (M'), (N'), mX74_bytes)) (rs : dvRs ((kd'), (an'), (ai'), al, ar, mX6_tape, mX6_size, mX6_values, mX6_count, mX6_writer, mX7_bytes, mX7_size, mX67_tape, mX67_size, mX67_at, mX67_wrong, mX67_place, (K'), (U'), (L'), mX70_is, (Z'), (Y'), (M'), (N'), mX74_bytes) qt qw R r') :
    wpDV_X6_keep (fun (r_ : Int) (ar_ : Nat → Int → Option Nat) (c_ : Nat → Int) => kc ≤ MC ∧ ks ≤ MS ∧ post r_ kd' an' ai' ar_ c_ K' U' L' Z' Y' M' N') kd' an' ar mX6_values mX6_count x r' := by
  have C2 := C.kp V kp
  exact CDV_keepK C2 V rs (fun z => ⟨hk.1, hk.2, A.1 z _ _ _ _ _ _ _ _ _ _ _ _ C2⟩) (fun z e => ⟨hk.1, hk.2, A.2.1 z e _ _ _ _ _ _ _ _ _ _ _ _ C2⟩) (fun z e _ _ C3 => ⟨hk.1, hk.2, A.2.2 z e _ _ _ _ _ _ _ _ _ _ _ _ C3⟩)
theorem CDV_ap0 (hk : kc ≤ MC ∧ ks ≤ MS) (C : dvC (kd, an, ai, al, ar, mX6_tape, mX6_size, mX6_values, mX6_count, mX6_writer, mX7_bytes, mX7_size, mX67_tape, mX67_size, mX67_at, mX67_wrong, mX67_place, mX68_kind, mX69_upper, mX69_lower, mX70_is, mX72_millis, mX72_zone, mX73_months, mX73_millis, mX74_bytes) x qt qv wr qw tp sz c kn on tw bt os o) (V : dvVs c kn on tw bt) (A : dvAz kd an ai al ar mX6_tape mX6_size mX6_values mX6_count mX6_writer mX7_bytes mX7_size mX67_tape mX67_size mX67_at mX67_wrong mX67_place mX68_kind mX69_upper mX69_lower mX70_is mX72_millis mX72_zone mX73_months mX73_millis mX74_bytes post x qt qv wr qw tp sz c kn on tw bt os o R) (e : R = dvNo) : (kc ≤ MC ∧ ks ≤ MS) ∧ wpDV_X6_keep (fun (r_ : Int) (ar_ : Nat → Int → Option Nat) (c_ : Nat → Int) => kc ≤ MC ∧ ks ≤ MS ∧ post r_ kd an ai ar_ c_ mX68_kind mX69_upper mX69_lower mX72_millis mX72_zone mX73_months mX73_millis) kd an ar mX6_values mX6_count x none :=
  ⟨hk, CDV_apK hk C V A dvKp.rfl (Or.inl ⟨rfl, by rw [e]; rfl⟩)⟩
/-- that of a value is a span, and not -/
theorem dvO.n7 (O : dvO (kd, an, ai, al, ar, mX6_tape, mX6_size, mX6_values, mX6_count, mX6_writer, mX7_bytes, mX7_size, mX67_tape, mX67_size, mX67_at, mX67_wrong, mX67_place, mX68_kind, mX69_upper, mX69_lower, mX70_is, mX72_millis, mX72_zone, mX73_months, mX73_millis, mX74_bytes) qt qw r k one two row) (hk : 0 ≤ k ∧ k ≤ 8) : (kd r = 7 ↔ k = 6) ∧ (kd r = 6 ↔ k = 4 ∨ k = 5) ∧ (kd r = 4 ↔ k ≤ 2) := by
  obtain ⟨_, K⟩ := O.cs hk
  rcases K with ⟨w, u, -⟩ | ⟨w, u, -⟩ | ⟨w, u, -⟩ | ⟨w, u, -⟩ | ⟨w, u, -⟩ <;> omega
theorem CDV_ap252 (hM : 2 ≤ MC ∧ 6 ≤ MS) (C : dvC (kd, an, ai, al, ar, mX6_tape, mX6_size, mX6_values, mX6_count, mX6_writer, mX7_bytes, mX7_size, mX67_tape, mX67_size, mX67_at, mX67_wrong, mX67_place, mX68_kind, mX69_upper, mX69_lower, mX70_is, mX72_millis, mX72_zone, mX73_months, mX73_millis, mX74_bytes) x qt qv wr qw tp sz c kn on tw bt os o) (V : dvVs c kn on tw bt) (A : dvAz kd an ai al ar mX6_tape mX6_size mX6_values mX6_count mX6_writer mX7_bytes mX7_size mX67_tape mX67_size mX67_at mX67_wrong mX67_place mX68_kind mX69_upper mX69_lower mX70_is mX72_millis mX72_zone mX73_months mX73_millis mX74_bytes post x qt qv wr qw tp sz c kn on tw bt os o R) (O1 : dvO (kd, an, ai, al, ar, mX6_tape, mX6_size, mX6_values, mX6_count, mX6_writer, mX7_bytes, mX7_size, mX67_tape, mX67_size, mX67_at, mX67_wrong, mX67_place, mX68_kind, mX69_upper, mX69_lower, mX70_is, mX72_millis, mX72_zone, mX73_months, mX73_millis, mX74_bytes) qt qw r (kn a) (on a) (tw a) row) (Va : dvOv (kn a) (on a) (tw a))
    (h7 : op = 7 → R = if kn a = 6 then dvKs (-on a) (-tw a) else dvNo) (hn : ¬ op = 7 → R = dvNo) : wDV_X6_apply_252 MC MS post x op (some r) none kd an ai ar mX6_values mX6_count mX68_kind mX69_upper mX69_lower mX72_millis mX72_zone mX73_months mX73_millis 0 0 := by
  have nl := Nat.zero_le
  have ha := Va.1
  have k7 := (O1.n7 ha).1
  unfold wDV_X6_apply_252
  refine ⟨fun e => kOn_some ⟨O1.kd' ha, fun z z1 z0 => ⟨fun w => ?_, fun w => ?_⟩⟩, fun e => CDV_ap0 ⟨nl _, nl _⟩ C V A (hn e)⟩
  · have n7 : ¬ kd r = 7 := fun q => by have := z1 q; omega
    exact CDV_ap0 ⟨nl _, nl _⟩ C V A (by rw [h7 e, if_neg (fun q => n7 (k7.2 q))])
  · have y7 : kd r = 7 := Classical.not_not.mp (fun q => w (z0 q))
    have k6 := k7.1 y7
    rw [if_pos k6] at h7
    have S : mX73_months r = on a ∧ mX73_millis r = tw a := (O1.2.2.2.2.1 k6).2
    have B := Va.2.2.2.2.1 k6
    rw [S.1, S.2]
    refine ⟨y7, by omega, by omega, 1, 3, by omega, CDV_spanOf (kd := kd) (an := an) (ai := ai) (al := al) (ar := ar) (mX6_tape := mX6_tape) (mX6_size := mX6_size) (mX6_values := mX6_values) (mX6_count := mX6_count) (mX6_writer := mX6_writer) (mX7_bytes := mX7_bytes) (mX7_size := mX7_size) (mX67_tape := mX67_tape) (mX67_size := mX67_size) (mX67_at := mX67_at) (mX67_wrong := mX67_wrong) (mX67_place := mX67_place) (mX68_kind := mX68_kind) (mX69_upper := mX69_upper) (mX69_lower := mX69_lower) (mX70_is := mX70_is) (mX72_millis := mX72_millis) (mX72_zone := mX72_zone) (mX73_months := mX73_months) (mX73_millis := mX73_millis) (mX74_bytes := mX74_bytes) (qt := qt) (qw := qw) (by decide) (by omega) (by omega) (fun r' kd' K' M' N' kp R' _ => ⟨by omega, CDV_apK (by omega) C V A kp ?_⟩)⟩
    rw [h7 e]; exact R'
theorem CDV_ap186 (hM : 2 ≤ MC ∧ 6 ≤ MS) (C : dvC (kd, an, ai, al, ar, mX6_tape, mX6_size, mX6_values, mX6_count, mX6_writer, mX7_bytes, mX7_size, mX67_tape, mX67_size, mX67_at, mX67_wrong, mX67_place, mX68_kind, mX69_upper, mX69_lower, mX70_is, mX72_millis, mX72_zone, mX73_months, mX73_millis, mX74_bytes) x qt qv wr qw tp sz c kn on tw bt os o) (V : dvVs c kn on tw bt) (A : dvAz kd an ai al ar mX6_tape mX6_size mX6_values mX6_count mX6_writer mX7_bytes mX7_size mX67_tape mX67_size mX67_at mX67_wrong mX67_place mX68_kind mX69_upper mX69_lower mX70_is mX72_millis mX72_zone mX73_months mX73_millis mX74_bytes post x qt qv wr qw tp sz c kn on tw bt os o R) (O1 : dvO (kd, an, ai, al, ar, mX6_tape, mX6_size, mX6_values, mX6_count, mX6_writer, mX7_bytes, mX7_size, mX67_tape, mX67_size, mX67_at, mX67_wrong, mX67_place, mX68_kind, mX69_upper, mX69_lower, mX70_is, mX72_millis, mX72_zone, mX73_months, mX73_millis, mX74_bytes) qt qw r (kn a) (on a) (tw a) row) (Va : dvOv (kn a) (on a) (tw a)) (O2 : ¬ op = 7 → dvO (kd, an, ai, al, ar, mX6_tape, mX6_size, mX6_values, mX6_count, mX6_writer, mX7_bytes, mX7_size, mX67_tape, mX67_size, mX67_at, mX67_wrong, mX67_place, mX68_kind, mX69_upper, mX69_lower, mX70_is, mX72_millis, mX72_zone, mX73_months, mX73_millis, mX74_bytes) qt qw s (kn b) (on b) (tw b) row') (Vb : ¬ op = 7 → dvOv (kn b) (on b) (tw b))
    (h7 : op = 7 → R = if kn a = 6 then dvKs (-on a) (-tw a) else dvNo) (h6 : op = 6 → R = if kn a = 6 ∧ kn b = 6 then dvKs (on a + on b) (tw a + tw b) else dvNo) (hn : ¬ op = 7 → ¬ op = 6 → R = dvNo) : wDV_X6_apply_186 MC MS post x op (some r) (some s) none kd an ai ar mX6_values mX6_count mX68_kind mX69_upper mX69_lower mX72_millis mX72_zone mX73_months mX73_millis 0 0 := by
  have nl := Nat.zero_le
  have ha := Va.1
  have k7 := (O1.n7 ha).1
  unfold wDV_X6_apply_186
  refine ⟨fun e => ?_, fun e => CDV_ap252 hM C V A O1 Va h7 (fun e7 => hn e7 e)⟩
  have O2 := O2 (by omega)
  have Vb := Vb (by omega)
  have hb := Vb.1
  have k7b := (O2.n7 hb).1
  have h6 := h6 e
  have no : ¬ (kn a = 6 ∧ kn b = 6) → wDV_X6_apply_252 MC MS post x op (some r) none kd an ai ar mX6_values mX6_count mX68_kind mX69_upper mX69_lower mX72_millis mX72_zone mX73_months mX73_millis 0 0 := fun q => CDV_ap252 hM C V A O1 Va h7 (fun _ => by rw [h6, if_neg q])
  refine kOn_some ⟨O1.kd' ha, fun z z1 z0 => ⟨fun w => no (fun q => ?_), fun w => ⟨?_, kOn_some ⟨O2.kd' hb, fun y y1 y0 => ⟨fun w2 => no (fun q => ?_), fun w2 => ?_⟩⟩⟩⟩⟩
  · have := z1 (k7.2 q.1); omega
  · exact Classical.not_not.mp (fun q => w (z0 q))
  · have := y1 (k7b.2 q.2); omega
  · have a7 : kd r = 7 := Classical.not_not.mp (fun q => w (z0 q))
    have b7 : kd s = 7 := Classical.not_not.mp (fun q => w2 (y0 q))
    have a6 := k7.1 a7
    have b6 := k7b.1 b7
    rw [if_pos ⟨a6, b6⟩] at h6
    have S : mX73_months r = on a ∧ mX73_millis r = tw a := (O1.2.2.2.2.1 a6).2
    have S2 : mX73_months s = on b ∧ mX73_millis s = tw b := (O2.2.2.2.2.1 b6).2
    have A' := Va.2.2.2.2.1 a6
    have B' := Vb.2.2.2.2.1 b6
    rw [S.1, S.2, S2.1, S2.2]
    refine ⟨b7, by omega, by omega, 1, 3, by omega, CDV_spanOf (kd := kd) (an := an) (ai := ai) (al := al) (ar := ar) (mX6_tape := mX6_tape) (mX6_size := mX6_size) (mX6_values := mX6_values) (mX6_count := mX6_count) (mX6_writer := mX6_writer) (mX7_bytes := mX7_bytes) (mX7_size := mX7_size) (mX67_tape := mX67_tape) (mX67_size := mX67_size) (mX67_at := mX67_at) (mX67_wrong := mX67_wrong) (mX67_place := mX67_place) (mX68_kind := mX68_kind) (mX69_upper := mX69_upper) (mX69_lower := mX69_lower) (mX70_is := mX70_is) (mX72_millis := mX72_millis) (mX72_zone := mX72_zone) (mX73_months := mX73_months) (mX73_millis := mX73_millis) (mX74_bytes := mX74_bytes) (qt := qt) (qw := qw) (by decide) (by omega) (by omega) (fun r' kd' K' M' N' kp R' _ => ⟨by omega, CDV_apK (by omega) C V A kp ?_⟩)⟩
    rw [h6]; exact R'
theorem CDV_ap145 (hM : 2 ≤ MC ∧ 6 ≤ MS) (C : dvC (kd, an, ai, al, ar, mX6_tape, mX6_size, mX6_values, mX6_count, mX6_writer, mX7_bytes, mX7_size, mX67_tape, mX67_size, mX67_at, mX67_wrong, mX67_place, mX68_kind, mX69_upper, mX69_lower, mX70_is, mX72_millis, mX72_zone, mX73_months, mX73_millis, mX74_bytes) x qt qv wr qw tp sz c kn on tw bt os o) (V : dvVs c kn on tw bt) (A : dvAz kd an ai al ar mX6_tape mX6_size mX6_values mX6_count mX6_writer mX7_bytes mX7_size mX67_tape mX67_size mX67_at mX67_wrong mX67_place mX68_kind mX69_upper mX69_lower mX70_is mX72_millis mX72_zone mX73_months mX73_millis mX74_bytes post x qt qv wr qw tp sz c kn on tw bt os o R) (O1 : dvO (kd, an, ai, al, ar, mX6_tape, mX6_size, mX6_values, mX6_count, mX6_writer, mX7_bytes, mX7_size, mX67_tape, mX67_size, mX67_at, mX67_wrong, mX67_place, mX68_kind, mX69_upper, mX69_lower, mX70_is, mX72_millis, mX72_zone, mX73_months, mX73_millis, mX74_bytes) qt qw r (kn a) (on a) (tw a) row) (Va : dvOv (kn a) (on a) (tw a)) (O2 : ¬ op = 7 → dvO (kd, an, ai, al, ar, mX6_tape, mX6_size, mX6_values, mX6_count, mX6_writer, mX7_bytes, mX7_size, mX67_tape, mX67_size, mX67_at, mX67_wrong, mX67_place, mX68_kind, mX69_upper, mX69_lower, mX70_is, mX72_millis, mX72_zone, mX73_months, mX73_millis, mX74_bytes) qt qw s (kn b) (on b) (tw b) row') (Vb : ¬ op = 7 → dvOv (kn b) (on b) (tw b))
    (h7 : op = 7 → R = if kn a = 6 then dvKs (-on a) (-tw a) else dvNo) (h6 : op = 6 → R = if kn a = 6 ∧ kn b = 6 then dvKs (on a + on b) (tw a + tw b) else dvNo) (h5 : op = 5 → R = if (kn a = 5 ∧ kn b = 5) ∧ ((tw a = 10000) ↔ (tw b = 10000)) then dvKs 0 (dvPt on tw a - dvPt on tw b) else dvNo) (hn : ¬ op = 7 → ¬ op = 6 → ¬ op = 5 → R = dvNo) : wDV_X6_apply_145 MC MS post x op (some r) (some s) none kd an ai ar mX6_values mX6_count mX68_kind mX69_upper mX69_lower mX72_millis mX72_zone mX73_months mX73_millis 0 0 := by
  have nl := Nat.zero_le
  have ha := Va.1
  unfold wDV_X6_apply_145
  refine ⟨fun e => ?_, fun e => CDV_ap186 hM C V A O1 Va O2 Vb h7 h6 (fun e7 e6 => hn e7 e6 e)⟩
  have O2' := O2 (by omega)
  have Vb' := Vb (by omega)
  have hb := Vb'.1
  have h5 := h5 e
  have no : ¬ (kn a = 5 ∧ kn b = 5) → wDV_X6_apply_186 MC MS post x op (some r) (some s) none kd an ai ar mX6_values mX6_count mX68_kind mX69_upper mX69_lower mX72_millis mX72_zone mX73_months mX73_millis 0 0 := fun q => CDV_ap186 hM C V A O1 Va O2 Vb h7 h6 (fun _ _ => by rw [h5, if_neg (fun w => q w.1)])
  have ea : mX68_kind r = kn a := O1.1
  have eb : mX68_kind s = kn b := O2'.1
  refine kOn_some ⟨O1.kd' ha, ?_⟩
  rw [ea]
  refine ⟨fun a5 => kOn_some ⟨O2'.kd' hb, ?_⟩, fun a5 => no (fun w => a5 w.1)⟩
  rw [eb]
  refine ⟨fun b5 => ?_, fun b5 => no (fun w => b5 w.2)⟩
  have S : kd r = 6 ∧ mX72_millis r = on a ∧ mX72_zone r = tw a := O1.2.2.2.1 (Or.inr a5)
  have S2 : kd s = 6 ∧ mX72_millis s = on b ∧ mX72_zone s = tw b := O2'.2.2.2.1 (Or.inr b5)
  have n1 : dvOf 1 1 1 = -719162 := by decide
  have n2 : dvOf 10000 1 1 = 2932897 := by decide
  have A' := Va.2.2.2.1 (Or.inr a5)
  have B' := Vb'.2.2.2.1 (Or.inr b5)
  rw [n1, n2] at A' B'
  refine ⟨S.1, S2.1, 1, 3, by omega, CDV_between (kd := kd) (an := an) (ai := ai) (al := al) (ar := ar) (mX6_tape := mX6_tape) (mX6_size := mX6_size) (mX6_values := mX6_values) (mX6_count := mX6_count) (mX6_writer := mX6_writer) (mX7_bytes := mX7_bytes) (mX7_size := mX7_size) (mX67_tape := mX67_tape) (mX67_size := mX67_size) (mX67_at := mX67_at) (mX67_wrong := mX67_wrong) (mX67_place := mX67_place) (mX68_kind := mX68_kind) (mX69_upper := mX69_upper) (mX69_lower := mX69_lower) (mX70_is := mX70_is) (mX72_millis := mX72_millis) (mX72_zone := mX72_zone) (mX73_months := mX73_months) (mX73_millis := mX73_millis) (mX74_bytes := mX74_bytes) (qt := qt) (qw := qw) (by decide) S.1 S.2.1 S.2.2 S2.1 S2.2.1 S2.2.2 (by omega) (by omega) (by omega) (by omega) (fun r' kd' K' M' N' kp R' _ => ⟨by omega, CDV_apK (by omega) C V A kp ?_⟩)⟩
  by_cases q : (tw a = 10000) ↔ (tw b = 10000)
  · rw [h5, if_pos ⟨⟨a5, b5⟩, q⟩]
    rw [if_pos q] at R'; exact R'
  · rw [h5, if_neg (fun w => q w.2)]
    rw [if_neg q] at R'; exact R'
theorem CDV_ap98 (hM : 2 ≤ MC ∧ 6 ≤ MS) (C : dvC (kd, an, ai, al, ar, mX6_tape, mX6_size, mX6_values, mX6_count, mX6_writer, mX7_bytes, mX7_size, mX67_tape, mX67_size, mX67_at, mX67_wrong, mX67_place, mX68_kind, mX69_upper, mX69_lower, mX70_is, mX72_millis, mX72_zone, mX73_months, mX73_millis, mX74_bytes) x qt qv wr qw tp sz c kn on tw bt os o) (V : dvVs c kn on tw bt) (A : dvAz kd an ai al ar mX6_tape mX6_size mX6_values mX6_count mX6_writer mX7_bytes mX7_size mX67_tape mX67_size mX67_at mX67_wrong mX67_place mX68_kind mX69_upper mX69_lower mX70_is mX72_millis mX72_zone mX73_months mX73_millis mX74_bytes post x qt qv wr qw tp sz c kn on tw bt os o R) (O1 : dvO (kd, an, ai, al, ar, mX6_tape, mX6_size, mX6_values, mX6_count, mX6_writer, mX7_bytes, mX7_size, mX67_tape, mX67_size, mX67_at, mX67_wrong, mX67_place, mX68_kind, mX69_upper, mX69_lower, mX70_is, mX72_millis, mX72_zone, mX73_months, mX73_millis, mX74_bytes) qt qw r (kn a) (on a) (tw a) row) (Va : dvOv (kn a) (on a) (tw a)) (O2 : ¬ op = 7 → dvO (kd, an, ai, al, ar, mX6_tape, mX6_size, mX6_values, mX6_count, mX6_writer, mX7_bytes, mX7_size, mX67_tape, mX67_size, mX67_at, mX67_wrong, mX67_place, mX68_kind, mX69_upper, mX69_lower, mX70_is, mX72_millis, mX72_zone, mX73_months, mX73_millis, mX74_bytes) qt qw s (kn b) (on b) (tw b) row') (Vb : ¬ op = 7 → dvOv (kn b) (on b) (tw b))
    (h7 : op = 7 → R = if kn a = 6 then dvKs (-on a) (-tw a) else dvNo) (h6 : op = 6 → R = if kn a = 6 ∧ kn b = 6 then dvKs (on a + on b) (tw a + tw b) else dvNo) (h5 : op = 5 → R = if (kn a = 5 ∧ kn b = 5) ∧ ((tw a = 10000) ↔ (tw b = 10000)) then dvKs 0 (dvPt on tw a - dvPt on tw b) else dvNo) (h4 : op = 4 → R = if (kn a = 4 ∨ kn a = 5) ∧ kn b = 6 then dvAd kn on tw a b else dvNo) (hn : ¬ op = 7 → ¬ op = 6 → ¬ op = 5 → ¬ op = 4 → R = dvNo) : wDV_X6_apply_98 MC MS post x op (some r) (some s) none kd an ai ar mX6_values mX6_count mX68_kind mX69_upper mX69_lower mX72_millis mX72_zone mX73_months mX73_millis 0 0 := by
  have nl := Nat.zero_le
  have ha := Va.1
  have k7 := (O1.n7 ha).2.1
  unfold wDV_X6_apply_98
  refine ⟨fun e => ?_, fun e => CDV_ap145 hM C V A O1 Va O2 Vb h7 h6 h5 (fun e7 e6 e5 => hn e7 e6 e5 e)⟩
  have O2' := O2 (by omega)
  have Vb' := Vb (by omega)
  have hb := Vb'.1
  have k7b := (O2'.n7 hb).1
  have h4 := h4 e
  have no : ¬ ((kn a = 4 ∨ kn a = 5) ∧ kn b = 6) → wDV_X6_apply_145 MC MS post x op (some r) (some s) none kd an ai ar mX6_values mX6_count mX68_kind mX69_upper mX69_lower mX72_millis mX72_zone mX73_months mX73_millis 0 0 := fun q => CDV_ap145 hM C V A O1 Va O2 Vb h7 h6 h5 (fun _ _ _ => by rw [h4, if_neg q])
  refine kOn_some ⟨O1.kd' ha, fun z z1 z0 => ⟨fun w => no (fun q => ?_), fun w => ⟨?_, kOn_some ⟨O2'.kd' hb, fun y y1 y0 => ⟨fun w2 => no (fun q => ?_), fun w2 => ?_⟩⟩⟩⟩⟩
  · have := z1 (k7.2 q.1); omega
  · exact Classical.not_not.mp (fun q => w (z0 q))
  · have := y1 (k7b.2 q.2); omega
  · have a7 : kd r = 6 := Classical.not_not.mp (fun q => w (z0 q))
    have b7 : kd s = 7 := Classical.not_not.mp (fun q => w2 (y0 q))
    have a6 := k7.1 a7
    have b6 := k7b.1 b7
    rw [if_pos ⟨a6, b6⟩] at h4
    have ea : mX68_kind r = kn a := O1.1
    have S : kd r = 6 ∧ mX72_millis r = on a ∧ mX72_zone r = tw a := O1.2.2.2.1 a6
    have S2 : kd s = 7 ∧ mX73_months s = on b ∧ mX73_millis s = tw b := O2'.2.2.2.2.1 b6
    have n1 : dvOf 1 1 1 = -719162 := by decide
    have n2 : dvOf 10000 1 1 = 2932897 := by decide
    have A' := Va.2.2.2.1 a6
    have B' := Vb'.2.2.2.2.1 b6
    rw [n1, n2] at A'
    refine ⟨b7, 2, 6, by omega, CDV_added (kd := kd) (an := an) (ai := ai) (al := al) (ar := ar) (mX6_tape := mX6_tape) (mX6_size := mX6_size) (mX6_values := mX6_values) (mX6_count := mX6_count) (mX6_writer := mX6_writer) (mX7_bytes := mX7_bytes) (mX7_size := mX7_size) (mX67_tape := mX67_tape) (mX67_size := mX67_size) (mX67_at := mX67_at) (mX67_wrong := mX67_wrong) (mX67_place := mX67_place) (mX68_kind := mX68_kind) (mX69_upper := mX69_upper) (mX69_lower := mX69_lower) (mX70_is := mX70_is) (mX72_millis := mX72_millis) (mX72_zone := mX72_zone) (mX73_months := mX73_months) (mX73_millis := mX73_millis) (mX74_bytes := mX74_bytes) (qt := qt) (qw := qw) (by decide) S.1 ea a6 S.2.1 S.2.2 S2.1 S2.2.1 S2.2.2 (by omega) B'.1 B'.2 (fun r' kd' an' ai' K' Z' Y' kp R' _ => ⟨by omega, CDV_apK (by omega) C V A kp ?_⟩)⟩
    rw [h4]; exact R'
theorem CDV_ap23 (hM : 2 ≤ MC ∧ 6 ≤ MS) (C : dvC (kd, an, ai, al, ar, mX6_tape, mX6_size, mX6_values, mX6_count, mX6_writer, mX7_bytes, mX7_size, mX67_tape, mX67_size, mX67_at, mX67_wrong, mX67_place, mX68_kind, mX69_upper, mX69_lower, mX70_is, mX72_millis, mX72_zone, mX73_months, mX73_millis, mX74_bytes) x qt qv wr qw tp sz c kn on tw bt os o) (V : dvVs c kn on tw bt) (A : dvAz kd an ai al ar mX6_tape mX6_size mX6_values mX6_count mX6_writer mX7_bytes mX7_size mX67_tape mX67_size mX67_at mX67_wrong mX67_place mX68_kind mX69_upper mX69_lower mX70_is mX72_millis mX72_zone mX73_months mX73_millis mX74_bytes post x qt qv wr qw tp sz c kn on tw bt os o (dvAp kn on tw c op a b)) {x4 y0 : Option Nat} (h4 : (x4 = none ∧ ¬ (0 ≤ a ∧ a < c)) ∨ ∃ r, x4 = some r ∧ (0 ≤ a ∧ a < c) ∧ dvO (kd, an, ai, al, ar, mX6_tape, mX6_size, mX6_values, mX6_count, mX6_writer, mX7_bytes, mX7_size, mX67_tape, mX67_size, mX67_at, mX67_wrong, mX67_place, mX68_kind, mX69_upper, mX69_lower, mX70_is, mX72_millis, mX72_zone, mX73_months, mX73_millis, mX74_bytes) qt qw r (kn a) (on a) (tw a) (fun k => bt (20 * a + k)))
    (h0 : op = 7 ∧ y0 = x4 ∨ ¬ op = 7 ∧ ((y0 = none ∧ ¬ (0 ≤ b ∧ b < c)) ∨ ∃ s, y0 = some s ∧ (0 ≤ b ∧ b < c) ∧ dvO (kd, an, ai, al, ar, mX6_tape, mX6_size, mX6_values, mX6_count, mX6_writer, mX7_bytes, mX7_size, mX67_tape, mX67_size, mX67_at, mX67_wrong, mX67_place, mX68_kind, mX69_upper, mX69_lower, mX70_is, mX72_millis, mX72_zone, mX73_months, mX73_millis, mX74_bytes) qt qw s (kn b) (on b) (tw b) (fun k => bt (20 * b + k)))) :
    wDV_X6_apply_23 MC MS post x op x4 y0 kd an ai ar mX6_values mX6_count mX68_kind mX69_upper mX69_lower mX72_millis mX72_zone mX73_months mX73_millis 0 0 := by
  have nl := Nat.zero_le
  have bad : ((op < 0 ∨ 7 < op ∨ ¬ (0 ≤ a ∧ a < c)) ∨ ¬ op = 7 ∧ ¬ (0 ≤ b ∧ b < c)) → 0 ≤ MC ∧ 0 ≤ MS ∧ post (-1) kd an ai ar mX6_count mX68_kind mX69_upper mX69_lower mX72_millis mX72_zone mX73_months mX73_millis := fun w => by
    unfold dvAp at A
    rw [if_pos w] at A
    exact ⟨nl _, nl _, A.1 (by show (-1 : Int) < 0; decide) _ _ _ _ _ _ _ _ _ _ _ _ C⟩
  unfold wDV_X6_apply_23
  refine ⟨fun w => bad (Or.inl (Or.inl w)), fun w0 => ⟨fun w => bad (Or.inl (Or.inr (Or.inl w))), fun w7 => ⟨fun e => bad (Or.inl (Or.inr (Or.inr ?_))), fun r er => ⟨fun e => bad ?_, fun s es => ?_⟩⟩⟩⟩
  · rcases h4 with h | ⟨r, h, _⟩
    · exact h.2
    · rw [e] at h; exact (nomatch h)
  · rcases h0 with h | ⟨n7, h | ⟨s, h, _⟩⟩
    · rw [h.2, er] at e; exact (nomatch e)
    · exact Or.inr ⟨n7, h.2⟩
    · rw [e] at h; exact (nomatch h)
  · rcases h4 with h | ⟨r', h, va, O1⟩
    · rw [er] at h; exact (nomatch h.1)
    rw [er] at h
    cases h
    have Va := (V.2 a va.1 va.2).1
    have ha := Va.1
    have B2 : ¬ op = 7 → (0 ≤ b ∧ b < c) ∧ dvO (kd, an, ai, al, ar, mX6_tape, mX6_size, mX6_values, mX6_count, mX6_writer, mX7_bytes, mX7_size, mX67_tape, mX67_size, mX67_at, mX67_wrong, mX67_place, mX68_kind, mX69_upper, mX69_lower, mX70_is, mX72_millis, mX72_zone, mX73_months, mX73_millis, mX74_bytes) qt qw s (kn b) (on b) (tw b) (fun k => bt (20 * b + k)) := fun n7 => by
      rcases h0 with h | ⟨_, h | ⟨s', h, vb, O2⟩⟩
      · exact absurd h.1 n7
      · rw [es] at h; exact (nomatch h.1)
      · rw [es] at h
        cases h
        exact ⟨vb, O2⟩
    have O2 : ¬ op = 7 → dvO (kd, an, ai, al, ar, mX6_tape, mX6_size, mX6_values, mX6_count, mX6_writer, mX7_bytes, mX7_size, mX67_tape, mX67_size, mX67_at, mX67_wrong, mX67_place, mX68_kind, mX69_upper, mX69_lower, mX70_is, mX72_millis, mX72_zone, mX73_months, mX73_millis, mX74_bytes) qt qw s (kn b) (on b) (tw b) (fun k => bt (20 * b + k)) := fun n7 => (B2 n7).2
    have Vb : ¬ op = 7 → dvOv (kn b) (on b) (tw b) := fun n7 => (V.2 b (B2 n7).1.1 (B2 n7).1.2).1
    have nb : ¬ ((op < 0 ∨ 7 < op ∨ ¬ (0 ≤ a ∧ a < c)) ∨ ¬ op = 7 ∧ ¬ (0 ≤ b ∧ b < c)) := fun w => by
      rcases w with (w | w | w) | w
      · omega
      · omega
      · exact w va
      · exact w.2 (B2 w.1).1
    have RR : dvAp kn on tw c op a b = if op < 4 then (if kn a ≤ 2 ∧ kn b ≤ 2 then dvRk op (on a) (tw a) (on b) (tw b) else dvNo) else
        if op = 7 then (if kn a = 6 then dvKs (-on a) (-tw a) else dvNo) else
        if op = 4 then (if (kn a = 4 ∨ kn a = 5) ∧ kn b = 6 then dvAd kn on tw a b else dvNo) else
        if op = 6 then (if kn a = 6 ∧ kn b = 6 then dvKs (on a + on b) (tw a + tw b) else dvNo) else
        if (kn a = 5 ∧ kn b = 5) ∧ ((tw a = 10000) ↔ (tw b = 10000)) then dvKs 0 (dvPt on tw a - dvPt on tw b) else dvNo := by unfold dvAp; rw [if_neg nb]
    have rest : (op < 4 → dvAp kn on tw c op a b = dvNo) → wDV_X6_apply_98 MC MS post x op (some r) (some s) none kd an ai ar mX6_values mX6_count mX68_kind mX69_upper mX69_lower mX72_millis mX72_zone mX73_months mX73_millis 0 0 := fun no4 =>
      CDV_ap98 hM C V A O1 Va O2 Vb (fun e => by rw [RR, if_neg (by omega), if_pos e]) (fun e => by rw [RR, if_neg (by omega), if_neg (by omega), if_neg (by omega), if_pos e]) (fun e => by rw [RR, if_neg (by omega), if_neg (by omega), if_neg (by omega), if_neg (by omega)]) (fun e => by rw [RR, if_neg (by omega), if_neg (by omega), if_pos e]) (fun e7 e6 e5 e4 => no4 (by omega))
    rw [er, es]
    refine ⟨fun w4 => rest (fun w => by omega), fun w4 => ⟨O1.kd' ha, fun z z1 z0 => ⟨fun w => rest (fun _ => ?_), fun w => ?_⟩⟩⟩
    · have n4 : ¬ kn a ≤ 2 := fun q => by have := z1 ((O1.n7 ha).2.2.2 q); omega
      rw [RR, if_pos (by omega), if_neg (fun q => n4 q.1)]
    · have a4 : kd r = 4 := Classical.not_not.mp (fun q => w (z0 q))
      have a2 := (O1.n7 ha).2.2.1 a4
      have O2' := O2 (by omega)
      have Vb' := Vb (by omega)
      have hb := Vb'.1
      refine ⟨a4, O2'.kd' hb, fun y y1 y0 => ⟨fun w2 => rest (fun _ => ?_), fun w2 => ?_⟩⟩
      · have n4 : ¬ kn b ≤ 2 := fun q => by have := y1 ((O2'.n7 hb).2.2.2 q); omega
        rw [RR, if_pos (by omega), if_neg (fun q => n4 q.2)]
      · have b4 : kd s = 4 := Classical.not_not.mp (fun q => w2 (y0 q))
        have b2 := (O2'.n7 hb).2.2.1 b4
        have S : kd r = 4 ∧ mX69_upper r = on a ∧ mX69_lower r = tw a := O1.2.1 a2
        have S2 : kd s = 4 ∧ mX69_upper s = on b ∧ mX69_lower s = tw b := O2'.2.1 b2
        have A' := Va.2.1 a2
        have B' := Vb'.2.1 b2
        refine ⟨b4, 1, 3, by omega, CDV_reckon (kd := kd) (an := an) (ai := ai) (al := al) (ar := ar) (mX6_tape := mX6_tape) (mX6_size := mX6_size) (mX6_values := mX6_values) (mX6_count := mX6_count) (mX6_writer := mX6_writer) (mX7_bytes := mX7_bytes) (mX7_size := mX7_size) (mX67_tape := mX67_tape) (mX67_size := mX67_size) (mX67_at := mX67_at) (mX67_wrong := mX67_wrong) (mX67_place := mX67_place) (mX68_kind := mX68_kind) (mX69_upper := mX69_upper) (mX69_lower := mX69_lower) (mX70_is := mX70_is) (mX72_millis := mX72_millis) (mX72_zone := mX72_zone) (mX73_months := mX73_months) (mX73_millis := mX73_millis) (mX74_bytes := mX74_bytes) (qt := qt) (qw := qw) (by decide) (by omega) S S2 A'.1 A'.2 B'.1 B'.2 (fun r' kd' K' U' L' kp R' _ => ⟨by omega, CDV_apK (by omega) C V A kp ?_⟩)⟩
        rw [RR, if_pos (by omega), if_pos ⟨a2, b2⟩]; exact R'
theorem CDV_apply (hM : 2 ≤ MC ∧ 6 ≤ MS) (C : dvC (kd, an, ai, al, ar, mX6_tape, mX6_size, mX6_values, mX6_count, mX6_writer, mX7_bytes, mX7_size, mX67_tape, mX67_size, mX67_at, mX67_wrong, mX67_place, mX68_kind, mX69_upper, mX69_lower, mX70_is, mX72_millis, mX72_zone, mX73_months, mX73_millis, mX74_bytes) x qt qv wr qw tp sz c kn on tw bt os o) (V : dvVs c kn on tw bt) (A : dvAz kd an ai al ar mX6_tape mX6_size mX6_values mX6_count mX6_writer mX7_bytes mX7_size mX67_tape mX67_size mX67_at mX67_wrong mX67_place mX68_kind mX69_upper mX69_lower mX70_is mX72_millis mX72_zone mX73_months mX73_millis mX74_bytes post x qt qv wr qw tp sz c kn on tw bt os o (dvAp kn on tw c op a b)) : wpDV_X6_apply MC MS post kd an ai ar mX6_values mX6_count mX68_kind mX69_upper mX69_lower mX72_millis mX72_zone mX73_months mX73_millis x op a b := by
  have nl := Nat.zero_le
  unfold wpDV_X6_apply
  have fin : ∀ x4 : Option Nat, ((x4 = none ∧ ¬ (0 ≤ a ∧ a < c)) ∨ ∃ r, x4 = some r ∧ (0 ≤ a ∧ a < c) ∧ dvO (kd, an, ai, al, ar, mX6_tape, mX6_size, mX6_values, mX6_count, mX6_writer, mX7_bytes, mX7_size, mX67_tape, mX67_size, mX67_at, mX67_wrong, mX67_place, mX68_kind, mX69_upper, mX69_lower, mX70_is, mX72_millis, mX72_zone, mX73_months, mX73_millis, mX74_bytes) qt qw r (kn a) (on a) (tw a) (fun k => bt (20 * a + k))) → ((op = 7 → (wDV_X6_apply_23 MC MS post x op x4 x4 kd an ai ar mX6_values mX6_count mX68_kind mX69_upper mX69_lower mX72_millis mX72_zone mX73_months mX73_millis 0 0)) ∧ (¬ op = 7 → (((0 ≤ MC ∧ 0 ≤ MS) ∧ wpDV_X6_at (fun (r_4 : Option Nat) => (wDV_X6_apply_23 MC MS post x op x4 r_4 kd an ai ar mX6_values mX6_count mX68_kind mX69_upper mX69_lower mX72_millis mX72_zone mX73_months mX73_millis 0 0)) kd an ar mX6_values mX6_count x b)))) := fun x4 h4 =>
    ⟨fun e => CDV_ap23 hM C V A h4 (Or.inl ⟨e, rfl⟩), fun e => ⟨⟨nl _, nl _⟩, CDV_at C V.1.2 (fun q => CDV_ap23 hM C V A h4 (Or.inr ⟨e, Or.inl ⟨rfl, q⟩⟩)) (fun b0 b1 s O2 => CDV_ap23 hM C V A h4 (Or.inr ⟨e, Or.inr ⟨s, rfl, ⟨b0, b1⟩, O2⟩⟩))⟩⟩
  exact ⟨⟨nl _, nl _⟩, CDV_at C V.1.2 (fun q => fin none (Or.inl ⟨rfl, q⟩)) (fun a0 a1 r O1 => fin (some r) (Or.inr ⟨r, rfl, ⟨a0, a1⟩, O1⟩))⟩
end

/-! DatatypeValues, the component: told -/
def dvHL : List Int := (List.range 16).map (fun (k : Nat) => dvHc (k : Int))
theorem dvHL_l : dvHL.length = 16 := by unfold dvHL; rw [List.length_map, List.length_range]
theorem dvHL_g : ∀ k : Nat, k < 16 → dvHL.getD k 0 = dvHc (k : Int) := by decide
theorem dvHc_b {d : Int} (h : 0 ≤ d ∧ d < 16) : 48 ≤ dvHc d ∧ dvHc d < 128 := by unfold dvHc; split <;> omega
theorem dvLe_b {d : Int} (h : 0 ≤ d ∧ d < 64) : 43 ≤ dvLe d ∧ dvLe d < 128 := by
  unfold dvLe
  split
  · split
    · split
      · split <;> omega
      · omega
    · omega
  · omega
theorem dvAb_2 (v : Int) : (if 0 < v then v else -v) = dvAb v := by unfold dvAb; split <;> split <;> omega
theorem dvAb_0 (v : Int) : 0 ≤ dvAb v := by unfold dvAb; split <;> omega
theorem dvSo_0 {L : List Int} {b : Int} : dvSo L 0 b = L := if_pos rfl
theorem va_up_w {α : Type} {f : Nat → α} {q w : Nat} {X Y : α} (h : ¬ q = w) : va_up (va_up f w X) q Y = va_up (va_up f q Y) w X := funext fun z => by
  by_cases a : z = q
  · rw [a, va_up_self, va_up_ne _ _ h, va_up_self]
  · rw [va_up_ne _ _ a]
    by_cases b : z = w
    · rw [b, va_up_self, va_up_self]
    · rw [va_up_ne _ _ b, va_up_ne _ _ b, va_up_ne _ _ a]
theorem dv_grp {x y : Int} (hx : 0 ≤ x ∧ x < 65536) (hy : 0 ≤ y ∧ y < 256) : zor (x * 256) y = x * 256 + y := by
  have := dv_or (A := x.toNat) (Y := y.toNat) (k := 8) (by omega) (by omega)
  rw [show (2 ^ 8 : Nat) = 256 by decide] at this
  rw [show x * 256 = ((256 * x.toNat : Nat) : Int) by omega, show y = ((y.toNat : Nat) : Int) by omega, this]
  omega
section
variable {kd : Nat → Nat} {an : Nat → Nat} {ai : Nat → Int → Int} {al : Nat → Int → Int} {ar : Nat → Int → Option Nat} {mX6_tape : Nat → Option Nat} {mX6_size : Nat → Int} {mX6_values : Nat → Option Nat} {mX6_count : Nat → Int} {mX6_writer : Nat → Option Nat} {mX7_bytes : Nat → Option Nat} {mX7_size : Nat → Int} {mX67_tape : Nat → Option Nat} {mX67_size : Nat → Int} {mX67_at : Nat → Int} {mX67_wrong : Nat → Option Nat} {mX67_place : Nat → Int} {mX68_kind : Nat → Int} {mX69_upper : Nat → Int} {mX69_lower : Nat → Int} {mX70_is : Nat → Int} {mX72_millis : Nat → Int} {mX72_zone : Nat → Int} {mX73_months : Nat → Int} {mX73_millis : Nat → Int} {mX74_bytes : Nat → Option Nat} {sa : Nat → Nat} {so : kSo} {wr qw x r q qt qv : Nat} {o kn on tw bt row tp : Int → Int} {L : List Int} {b v y k one two n c sz os lf m i e : Int} {MC MS kc ks : Nat}
theorem CDV_wall {post : (Nat → Int → Int) → (Nat → Int) → Prop} {s : Nat} {T : List Int} (W : dvWz kd an mX7_bytes wr qw) (hT : txS so s T) (hs : (L.length : Int) + T.length ≤ 80) (hp : post (va_up ai qw (dvPo o (L ++ T))) (va_up mX7_size wr ((L ++ T).length : Nat))) : wpDV_X7_addAll post kd an (va_up ai qw (dvPo o L)) mX7_bytes (va_up mX7_size wr ((L.length : Nat) : Int)) sa so wr (some s) := by
  unfold wpDV_X7_addAll
  have key : ∀ (j k : Nat), k + j = T.length → wDV_X7_addAll_2 (fun (a : Nat → Int → Int) (z : Nat → Int) => post a z) wr (some s) kd an mX7_bytes sa so (j + 1) (k : Int) (va_up ai qw (dvPo o (L ++ T.take k))) (va_up mX7_size wr ((L ++ T.take k).length : Nat)) := fun j => by
    induction j with
    | zero =>
      intro k hk
      rw [wDV_X7_addAll_2]
      rw [List.take_of_length_le (by omega)]
      exact kOn_some ⟨hT.1, CDV_len hT ⟨fun _ => hp, fun w => absurd (by omega) w⟩⟩
    | succ j ih =>
      intro k hk
      rw [wDV_X7_addAll_2]
      have tk : (T.take k).length = k := by rw [List.length_take]; omega
      have g := (hT.2.2.2 k (by omega)).2
      refine kOn_some ⟨hT.1, CDV_len hT ⟨fun w => by omega, fun _ => CDV_chr hT (by omega) (CDV_add W ?_ ?_ ⟨?_, fun k2 ek => ?_⟩)⟩⟩
      · rw [show ((k : Nat) : Int).toNat = k by omega]; omega
      · rw [List.length_append, tk]; omega
      · omega
      · have e1 : L ++ T.take k ++ [T.getD ((k : Nat) : Int).toNat 0] = L ++ T.take (k + 1) := by
          rw [show ((k : Nat) : Int).toNat = k by omega, List.append_assoc]
          congr 1
          rw [List.take_succ, List.getD_eq_getElem?_getD]
          rw [List.getElem?_eq_getElem (by omega)]
          rfl
        rw [e1, ek]
        exact ih (k + 1) (by omega)
  have K := key T.length 0 (by omega)
  rw [List.take_zero, List.append_nil] at K
  exact ⟨T.length + 1, K⟩
theorem dvPo_0 : va_up ai qw (dvPo (ai qw) []) = ai := funext fun z => by
  by_cases e : z = qw
  · rw [e, va_up_self, ← dvPo_n]
  · rw [va_up_ne _ _ e]
/-- numbers -/
theorem CDV_tellN {post : (Nat → Nat) → (Nat → Nat) → (Nat → Int → Int) → (Nat → Int) → Prop} (W : dvWz kd an mX7_bytes wr qw) (e1 : mX69_upper r = on v) (e2 : mX69_lower r = tw v) (T : (-1000000000 < on v ∧ on v < 1000000000) ∧ 0 < tw v ∧ tw v < 1000000000) (hp : ∀ L : List Int, L = (if tw v = 1 then dvNm [] (on v) 1 else dvNm (dvNm [] (on v) 1 ++ [47]) (tw v) 1) → post kd an (va_up ai qw (dvPo o L)) (va_up mX7_size wr (L.length : Nat))) : wpDV_X69_tell MC MS post kd an (va_up ai qw (dvPo o [])) mX7_bytes (va_up mX7_size wr (([] : List Int).length : Nat)) mX69_upper mX69_lower r (some wr) := by
  have nl := Nat.zero_le
  have a1 := dvNm_l (L := []) (v := on v) (least := 1) 9 (by omega) (by decide) (by decide)
  have a2 := dvL1 (L := dvNm [] (on v) 1) (b := 47)
  unfold wpDV_X69_tell
  rw [e1, e2]
  have z0 : ((([] : List Int).length : Nat) : Int) = 0 := rfl
  refine kOn_some ⟨W.2.2.2, ⟨nl _, nl _⟩, CDV_wnum 9 W (by omega) (by decide) (by decide) (by decide) ⟨fun q => ⟨nl _, nl _, ?_⟩, fun q => ⟨⟨nl _, nl _⟩, CDV_add W (by decide) (by omega) ⟨⟨nl _, nl _⟩, CDV_wnum 9 W (by omega) (by decide) (by decide) (by omega) ⟨nl _, nl _, ?_⟩⟩⟩⟩⟩
  · exact hp _ (by rw [if_pos q])
  · exact hp _ (by rw [if_neg q])
/-- truths -/
theorem CDV_tellT {post : (Nat → Nat) → (Nat → Nat) → (Nat → Int → Int) → (Nat → Int) → Prop} (W : dvWz kd an mX7_bytes wr qw) (e1 : mX70_is r = on v) (T : on v = 0 ∨ on v = 1) (T1 : txS so (sa 265) (dvWd 1953658213 4)) (T2 : txS so (sa 266) (dvWd 439721161573 5)) (hp : ∀ L : List Int, L = dvTw [] (if on v = 1 then 1 else 0) → post kd an (va_up ai qw (dvPo o L)) (va_up mX7_size wr (L.length : Nat))) : wpDV_X70_tell MC MS post kd an (va_up ai qw (dvPo o [])) mX7_bytes (va_up mX7_size wr (([] : List Int).length : Nat)) mX70_is sa so r (some wr) := by
  have nl := Nat.zero_le
  unfold dvTw at hp
  unfold wpDV_X70_tell
  rw [e1]
  refine ⟨fun q => kOn_some ⟨W.2.2.2, ⟨nl _, nl _⟩, CDV_wall W T2 (by rw [dvWd_l]; decide) ⟨nl _, nl _, hp _ ?_⟩⟩, fun q => kOn_some ⟨W.2.2.2, ⟨nl _, nl _⟩, CDV_wall W T1 (by rw [dvWd_l]; decide) ⟨nl _, nl _, hp _ ?_⟩⟩⟩
  · rw [if_neg (show ¬ on v = 1 by omega), if_pos rfl]
  · rw [if_pos (show on v = 1 by omega), if_neg (by decide)]
/-- zones -/
theorem CDV_t94 {post : (Nat → Nat) → (Nat → Nat) → (Nat → Int → Int) → (Nat → Int) → Prop} {L0 : List Int} {z : Int} (hk : kc ≤ MC ∧ ks ≤ MS) (W : dvWz kd an mX7_bytes wr qw) (ez : mX72_zone r = z) (h2 : z = 10000 ∨ (-900 ≤ z ∧ z ≤ 900)) (hl : (L0.length : Int) ≤ 60) (hL : L = if z = 0 then L0 ++ [90] else L0) (hp : ∀ L' : List Int, L' = dvTz L0 z → post kd an (va_up ai qw (dvPo o L')) (va_up mX7_size wr (L'.length : Nat))) : wDV_X72_tell_94 MC MS post r (some wr) kd an (va_up ai qw (dvPo o L)) mX7_bytes (va_up mX7_size wr ((L.length : Nat) : Int)) mX72_zone kc ks := by
  unfold dvTz at hp
  unfold wDV_X72_tell_94
  rw [ez]
  refine ⟨fun q => ⟨hk.1, hk.2, ?_⟩, fun q => ⟨fun q2 => ⟨hk.1, hk.2, ?_⟩, fun q2 => ?_⟩⟩
  · rw [if_pos q] at hL hp
    rw [hL]; exact hp _ rfl
  · rw [if_neg q] at hL
    rw [if_neg q, if_pos q2] at hp
    rw [hL]; exact hp _ rfl
  · rw [if_neg q] at hL
    rw [if_neg q, if_neg q2] at hp
    have ab : 0 ≤ dvAb z ∧ dvAb z ≤ 900 := by unfold dvAb; split <;> omega
    have fin : ∀ sg : Int, sg = (if 0 ≤ z then 43 else 45) → wDV_X72_tell_127 MC MS post r (some wr) (some wr) sg kd an (va_up ai qw (dvPo o L)) mX7_bytes (va_up mX7_size wr ((L.length : Nat) : Int)) mX72_zone kc ks := fun sg es => by
      have l1 := dvL1 (L := L0) (b := sg)
      have l2 := dvNm_l (L := L0 ++ [sg]) (v := dvAb z / 60) (least := 2) 2 (by omega) (by decide) (by decide)
      have l3 := dvL1 (L := dvNm (L0 ++ [sg]) (dvAb z / 60) 2) (b := 58)
      have sb : -128 ≤ sg ∧ sg < 128 := by rw [es]; split <;> decide
      rw [← es] at hp
      have zz : (if 0 ≤ z then z else -z) = dvAb z := rfl
      unfold wDV_X72_tell_127
      rw [ez, zz, hL]
      exact kOn_some ⟨W.2.2.2, hk, CDV_add W sb (by omega) ⟨hk, by omega, ab.1, kOn_some ⟨W.2.2.2, hk, CDV_wnum 2 W (by omega) (by decide) (by decide) (by omega) ⟨hk, CDV_add W (by decide) (by omega) ⟨hk, CDV_wnum 2 W (by omega) (by decide) (by decide) (by omega) ⟨hk.1, hk.2, hp _ rfl⟩⟩⟩⟩⟩⟩
    exact ⟨fun w => fin 43 (by rw [if_pos w]), fun w => fin 45 (by rw [if_neg w])⟩
/-- times -/
theorem CDV_tellM {post : (Nat → Nat) → (Nat → Nat) → (Nat → Int → Int) → (Nat → Int) → Prop} (hM : 1 ≤ MC ∧ 3 ≤ MS) (W : dvWz kd an mX7_bytes wr qw) (e0 : mX68_kind r = kn v) (e1 : mX72_millis r = on v) (e2 : mX72_zone r = tw v) (h1 : 86400000 * dvOf 1 1 1 ≤ on v ∧ on v < 86400000 * dvOf 10000 1 1) (h2 : tw v = 10000 ∨ (-900 ≤ tw v ∧ tw v ≤ 900)) (hp : ∀ (L : List Int) q D, kd q = 0 → L = dvTt [] (kn v) (on v) (tw v) → post (va_up kd q 9) (va_up an q 3) (va_up (va_up ai q D) qw (dvPo o L)) (va_up mX7_size wr (L.length : Nat))) : wpDV_X72_tell MC MS post kd an (va_up ai qw (dvPo o [])) mX7_bytes (va_up mX7_size wr (([] : List Int).length : Nat)) mX68_kind mX72_millis mX72_zone r (some wr) := by
  have nl := Nat.zero_le
  have n1 : dvOf 1 1 1 = -719162 := by decide
  have n2 : dvOf 10000 1 1 = 2932897 := by decide
  have db := dvTd_b (d := on v / 86400000) (by rw [n1, n2] at h1 ⊢; omega)
  rw [n1, n2] at h1
  have a0 : ((([] : List Int).length : Nat) : Int) = 0 := rfl
  have a1 := dvNm_l (L := []) (v := dvYy (on v / 86400000)) (least := 4) 5 (by omega) (by decide) (by decide)
  have a2 := dvL1 (L := dvNm [] (dvYy (on v / 86400000)) 4) (b := 45)
  have a3 := dvNm_l (L := dvNm [] (dvYy (on v / 86400000)) 4 ++ [45]) (v := dvMm (on v / 86400000)) (least := 2) 2 (by omega) (by decide) (by decide)
  have a4 := dvL1 (L := dvNm (dvNm [] (dvYy (on v / 86400000)) 4 ++ [45]) (dvMm (on v / 86400000)) 2) (b := 45)
  have a5 := dvNm_l (L := dvNm (dvNm [] (dvYy (on v / 86400000)) 4 ++ [45]) (dvMm (on v / 86400000)) 2 ++ [45]) (v := dvDd (on v / 86400000)) (least := 2) 2 (by omega) (by decide) (by decide)
  unfold wpDV_X72_tell
  rw [e0, e1]
  refine ⟨⟨nl _, nl _⟩, CDV_floorDiv (by decide) (by omega) (by decide) ⟨1, 3, by omega, CDV_dateOf (by decide) (by omega) (fun q D hq d0 d1 d2 _ => ?_)⟩⟩
  have hk : 0 + 1 ≤ MC ∧ 0 + 3 ≤ MS := by omega
  have nw : ¬ q = qw := fun e => by rw [e, W.2.1] at hq; exact absurd hq (by decide)
  have nr : ¬ wr = q := fun e => by have := W.2.2.2; rw [e, hq] at this; exact absurd this (by decide)
  rw [va_up_w nw]
  have W2 : dvWz (va_up kd q 9) (va_up an q 3) mX7_bytes wr qw := ⟨W.1, by rw [va_up_ne _ _ (fun e => nw e.symm)]; exact W.2.1, by rw [va_up_ne _ _ (fun e => nw e.symm)]; exact W.2.2.1, by rw [va_up_ne _ _ nr]; exact W.2.2.2⟩
  have rd : ∀ (j : Int) (L : List Int), va_up (va_up ai q D) qw (dvPo o L) q j = D j := fun j L => by rw [va_up_ne _ _ nw, va_up_self]
  have kq : va_up kd q 9 q = 9 := va_up_self _ _ _
  have aq : va_up an q 3 q = 3 := va_up_self _ _ _
  have hp := fun L => hp L q D hq
  refine kOn_some ⟨kq, by rw [aq]; decide, kOn_some ⟨W2.2.2.2, hk, ?_⟩⟩
  rw [rd, d0]
  refine CDV_wnum 5 W2 (by omega) (by decide) (by decide) (by omega) ⟨hk, CDV_add W2 (by decide) (by omega) ⟨by rw [aq]; decide, hk, ?_⟩⟩
  rw [rd, d1]
  refine CDV_wnum 2 W2 (by omega) (by decide) (by decide) (by omega) ⟨hk, CDV_add W2 (by decide) (by omega) ⟨by rw [aq]; decide, hk, ?_⟩⟩
  rw [rd, d2]
  have eT : dvNm (dvNm (dvNm [] (dvYy (on v / 86400000)) 4 ++ [45]) (dvMm (on v / 86400000)) 2 ++ [45]) (dvDd (on v / 86400000)) 2 = dvTd [] (on v / 86400000) := rfl
  have e5 : ((dvTd [] (on v / 86400000)).length : Int) ≤ 15 := by rw [← eT]; omega
  refine CDV_wnum 2 W2 (by omega) (by decide) (by decide) (by omega) ?_
  rw [eT]
  unfold dvTt at hp
  generalize dvTd [] (on v / 86400000) = T at e5 hp ⊢
  refine ⟨fun k5 => ⟨hk, CDV_floorMod (by decide) (by omega) (by decide) ⟨hk, CDV_wclock W2 (by omega) (by omega) ?_⟩⟩, fun k5 => ?_⟩
  · rw [if_pos k5] at hp
    have r0 : 0 ≤ on v % 86400000 ∧ on v % 86400000 < 86400000 := by omega
    generalize on v % 86400000 = R at r0 hp ⊢
    have lc : ((dvTc T R).length : Int) ≤ 40 := by
      unfold dvTc
      have b1 := dvL1 (L := T) (b := 84)
      have b2 := dvNm_l (L := T ++ [84]) (v := R / 3600000) (least := 2) 2 (by omega) (by decide) (by decide)
      have b3 := dvL1 (L := dvNm (T ++ [84]) (R / 3600000) 2) (b := 58)
      have b4 := dvNm_l (L := dvNm (T ++ [84]) (R / 3600000) 2 ++ [58]) (v := R / 60000 % 60) (least := 2) 2 (by omega) (by decide) (by decide)
      have b5 := dvL1 (L := dvNm (dvNm (T ++ [84]) (R / 3600000) 2 ++ [58]) (R / 60000 % 60) 2) (b := 58)
      have b6 := dvNm_l (L := dvNm (dvNm (T ++ [84]) (R / 3600000) 2 ++ [58]) (R / 60000 % 60) 2 ++ [58]) (v := R / 1000 % 60) (least := 2) 2 (by omega) (by decide) (by decide)
      have b7 := dvMs_l (L := dvNm (dvNm (dvNm (T ++ [84]) (R / 3600000) 2 ++ [58]) (R / 60000 % 60) 2 ++ [58]) (R / 1000 % 60) 2) (v := R % 1000) (by omega)
      omega
    generalize dvTc T R = U at lc hp ⊢
    rw [e2]
    exact ⟨fun z => ⟨hk, CDV_add W2 (by decide) (by omega) (CDV_t94 hk W2 e2 h2 (by omega) (by rw [if_pos z]) hp)⟩, fun z => CDV_t94 hk W2 e2 h2 (by omega) (by rw [if_neg z]) hp⟩
  · rw [if_neg k5] at hp
    rw [e2]
    exact ⟨fun z => ⟨hk, CDV_add W2 (by decide) (by omega) (CDV_t94 hk W2 e2 h2 (by omega) (by rw [if_pos z]) hp)⟩, fun z => CDV_t94 hk W2 e2 h2 (by omega) (by rw [if_neg z]) hp⟩
end

/-! DatatypeValues, the component: spans and rows told; all that is told -/
section
variable {kd : Nat → Nat} {an : Nat → Nat} {ai : Nat → Int → Int} {al : Nat → Int → Int} {ar : Nat → Int → Option Nat} {mX6_tape : Nat → Option Nat} {mX6_size : Nat → Int} {mX6_values : Nat → Option Nat} {mX6_count : Nat → Int} {mX6_writer : Nat → Option Nat} {mX7_bytes : Nat → Option Nat} {mX7_size : Nat → Int} {mX67_tape : Nat → Option Nat} {mX67_size : Nat → Int} {mX67_at : Nat → Int} {mX67_wrong : Nat → Option Nat} {mX67_place : Nat → Int} {mX68_kind : Nat → Int} {mX69_upper : Nat → Int} {mX69_lower : Nat → Int} {mX70_is : Nat → Int} {mX72_millis : Nat → Int} {mX72_zone : Nat → Int} {mX73_months : Nat → Int} {mX73_millis : Nat → Int} {mX74_bytes : Nat → Option Nat} {sa : Nat → Nat} {so : kSo} {wr qw x r q qt qv : Nat} {o kn on tw bt row tp : Int → Int} {L : List Int} {b v y k one two n c sz os lf m i e u R : Int} {MC MS kc ks : Nat} {post : (Nat → Nat) → (Nat → Nat) → (Nat → Int → Int) → (Nat → Int) → Prop}
theorem CDV_t293 (hk : kc ≤ MC ∧ ks ≤ MS) (W : dvWz kd an mX7_bytes wr qw) (h0 : 0 ≤ u ∧ u < 60000) (hl : (L.length : Int) ≤ 60) (hp : post kd an (va_up ai qw (dvPo o (dvMs (dvNm L (u / 1000) 1) (u % 1000) ++ [83]))) (va_up mX7_size wr ((dvMs (dvNm L (u / 1000) 1) (u % 1000) ++ [83]).length : Nat))) : wDV_X73_tell_293 MC MS post (some wr) u kd an (va_up ai qw (dvPo o L)) mX7_bytes (va_up mX7_size wr ((L.length : Nat) : Int)) kc ks := by
  have a1 := dvNm_l (L := L) (v := u / 1000) (least := 1) 2 (by omega) (by decide) (by decide)
  have a2 := dvMs_l (L := dvNm L (u / 1000) 1) (v := u % 1000) (by omega)
  unfold wDV_X73_tell_293
  exact ⟨h0.1, kOn_some ⟨W.2.2.2, hk, CDV_wnum 2 W (by omega) (by decide) (by decide) (by omega) ⟨hk, CDV_wfrac W (by omega) (by omega) ⟨hk, CDV_add W (by decide) (by omega) ⟨hk.1, hk.2, hp⟩⟩⟩⟩⟩
theorem CDV_t234 (hk : kc ≤ MC ∧ ks ≤ MS) (W : dvWz kd an mX7_bytes wr qw) (h0 : 0 ≤ R ∧ R < 86400000) (hl : (L.length : Int) ≤ 40) (hi : mX73_millis r = 0 ↔ i = 0)
    (h1 : R % 60000 = 0 ∧ ¬ (m = 0 ∧ i = 0) → post kd an (va_up ai qw (dvPo o (dvSo (dvSo L (R / 3600000) 72) (R / 60000 % 60) 77))) (va_up mX7_size wr ((dvSo (dvSo L (R / 3600000) 72) (R / 60000 % 60) 77).length : Nat)))
    (h2 : ¬ (R % 60000 = 0 ∧ ¬ (m = 0 ∧ i = 0)) → post kd an (va_up ai qw (dvPo o (dvMs (dvNm (dvSo (dvSo L (R / 3600000) 72) (R / 60000 % 60) 77) (R / 1000 % 60) 1) (R % 1000) ++ [83]))) (va_up mX7_size wr ((dvMs (dvNm (dvSo (dvSo L (R / 3600000) 72) (R / 60000 % 60) 77) (R / 1000 % 60) 1) (R % 1000) ++ [83]).length : Nat))) : wDV_X73_tell_234 MC MS post r (some wr) m R kd an (va_up ai qw (dvPo o L)) mX7_bytes (va_up mX7_size wr ((L.length : Nat) : Int)) mX73_millis kc ks := by
  have a2 := dvSo_l (L := L) (v := R / 3600000) (b := 72) 2 (by omega) (by decide)
  have a3 := dvSo_l (L := dvSo L (R / 3600000) 72) (v := R / 60000 % 60) (b := 77) 2 (by omega) (by decide)
  unfold wDV_X73_tell_234
  refine ⟨h0.1, kOn_some ⟨W.2.2.2, hk, CDV_wsome 2 W (by omega) (by decide) (by decide) (by omega) ⟨by omega, hk, CDV_wsome 2 W (by omega) (by decide) (by decide) (by omega) (fun u eu => ?_)⟩⟩⟩
  have e1 : u / 1000 = R / 1000 % 60 := by omega
  have e2 : u % 1000 = R % 1000 := by omega
  have lng : ¬ (R % 60000 = 0 ∧ ¬ (m = 0 ∧ i = 0)) → wDV_X73_tell_293 MC MS post (some wr) u kd an (va_up ai qw (dvPo o (dvSo (dvSo L (R / 3600000) 72) (R / 60000 % 60) 77))) mX7_bytes (va_up mX7_size wr ((dvSo (dvSo L (R / 3600000) 72) (R / 60000 % 60) 77).length : Nat)) kc ks := fun w => by
    refine CDV_t293 hk W (by omega) (by omega) ?_
    rw [e1, e2]
    exact h2 w
  refine ⟨fun z => ⟨fun m0 => ⟨fun i0 => lng (fun w => w.2 ⟨m0, hi.1 i0⟩), fun i0 => ⟨hk.1, hk.2, h1 ⟨by omega, fun w => i0 (hi.2 w.2)⟩⟩⟩, fun m0 => ⟨hk.1, hk.2, h1 ⟨by omega, fun w => m0 w.1⟩⟩⟩, fun z => lng (fun w => z (by omega))⟩
theorem CDV_t141 (hk : kc ≤ MC ∧ ks ≤ MS) (W : dvWz kd an mX7_bytes wr qw) (e1 : mX73_months r = on v) (e2 : mX73_millis r = tw v) (hm : -1000000000 < on v ∧ on v < 1000000000) (hi : -1000000000000000 < tw v ∧ tw v < 1000000000000000) (hl : (L.length : Int) ≤ 1) (hp : post kd an (va_up ai qw (dvPo o (dvTs (L ++ [80]) (dvAb (on v)) (dvAb (tw v))))) (va_up mX7_size wr ((dvTs (L ++ [80]) (dvAb (on v)) (dvAb (tw v))).length : Nat))) : wDV_X73_tell_141 MC MS post r (some wr) kd an (va_up ai qw (dvPo o L)) mX7_bytes (va_up mX7_size wr ((L.length : Nat) : Int)) mX73_months mX73_millis kc ks := by
  have am : 0 ≤ dvAb (on v) ∧ dvAb (on v) < 1000000000 := by unfold dvAb; split <;> omega
  have ai' : 0 ≤ dvAb (tw v) ∧ dvAb (tw v) < 1000000000000000 := by unfold dvAb; split <;> omega
  have iz : mX73_millis r = 0 ↔ dvAb (tw v) = 0 := by rw [e2]; unfold dvAb; split <;> omega
  unfold wDV_X73_tell_141
  rw [e1, e2, dvAb_2, dvAb_2]
  rw [e2] at iz
  generalize dvAb (on v) = m at am hp ⊢
  generalize dvAb (tw v) = I at ai' hp iz ⊢
  have l0 := dvL1 (L := L) (b := 80)
  refine kOn_some ⟨W.2.2.2, hk, CDV_add W (by decide) (by omega) ⟨hk, by omega, fun m' em => ⟨by omega, fun i' ei => ?_⟩⟩⟩
  subst em ei
  generalize L ++ [80] = L1 at l0 hp ⊢
  have a1 := dvSo_l (L := L1) (v := m' / 12) (b := 89) 8 (by omega) (by decide)
  have a2 := dvSo_l (L := dvSo L1 (m' / 12) 89) (v := m' % 12) (b := 77) 2 (by omega) (by decide)
  have a3 := dvSo_l (L := dvSo (dvSo L1 (m' / 12) 89) (m' % 12) 77) (v := i' / 86400000) (b := 68) 8 (by omega) (by decide)
  unfold dvTs at hp
  refine ⟨am.1, hk, CDV_wsome 8 W (by omega) (by decide) (by decide) (by omega) ⟨hk, CDV_wsome 2 W (by omega) (by decide) (by decide) (by omega) ⟨ai'.1, hk, CDV_wsome 8 W (by omega) (by decide) (by decide) (by omega) (fun R eR => ?_)⟩⟩⟩
  rw [← eR] at hp
  have rb : 0 ≤ R ∧ R < 86400000 := by omega
  generalize dvSo (dvSo (dvSo L1 (m' / 12) 89) (m' % 12) 77) (i' / 86400000) 68 = L3 at a3 hp ⊢
  have iz' : mX73_millis r = 0 ↔ i' = 0 := by rw [e2]; exact iz
  have l3 := dvL1 (L := L3) (b := 84)
  have goes : ¬ (R = 0 ∧ ¬ (m' = 0 ∧ i' = 0)) → (kc ≤ MC ∧ ks ≤ MS) ∧ wpDV_X7_add (fun (ai_38 : Nat → Int → Int) (s_39 : Nat → Int) => (wDV_X73_tell_234 MC MS post r (some wr) m' R kd an ai_38 mX7_bytes s_39 mX73_millis kc ks)) kd an (va_up ai qw (dvPo o L3)) mX7_bytes (va_up mX7_size wr ((L3.length : Nat) : Int)) wr 84 := fun nz => by
    rw [if_neg nz] at hp
    refine ⟨hk, CDV_add W (by decide) (by omega) (CDV_t234 hk W rb (by omega) iz' (fun q => ?_) (fun q => ?_))⟩
    · rw [if_pos q] at hp; exact hp
    · rw [if_neg q] at hp; exact hp
  have ends : R = 0 ∧ ¬ (m' = 0 ∧ i' = 0) → wDV_X73_tell_234 MC MS post r (some wr) m' R kd an (va_up ai qw (dvPo o L3)) mX7_bytes (va_up mX7_size wr ((L3.length : Nat) : Int)) mX73_millis kc ks := fun z => by
    rw [if_pos z] at hp
    have z0 : dvSo (dvSo L3 (R / 3600000) 72) (R / 60000 % 60) 77 = L3 := by rw [z.1, show (0 : Int) / 3600000 = 0 by decide, dvSo_0, show (0 : Int) / 60000 % 60 = 0 by decide, dvSo_0]
    refine CDV_t234 hk W rb (by omega) iz' (fun _ => ?_) (fun q => absurd ⟨by rw [z.1]; decide, z.2⟩ q)
    rw [z0]; exact hp
  exact ⟨fun p => goes (by omega), fun p => ⟨fun m0 => ⟨fun i0 => goes (fun w => w.2 ⟨m0, iz.1 i0⟩), fun i0 => ends ⟨by omega, fun w => i0 (iz.2 w.2)⟩⟩, fun m0 => ends ⟨by omega, fun w => m0 w.1⟩⟩⟩
theorem CDV_t72 (hk : kc ≤ MC ∧ ks ≤ MS) (W : dvWz kd an mX7_bytes wr qw) (e2 : mX73_millis r = tw v) (hi : -1000000000000000 < tw v ∧ tw v < 1000000000000000) (hl : (L.length : Int) ≤ 40) (hp : post kd an (va_up ai qw (dvPo o (dvNm (dvNm L (dvAb (tw v) / 1000) 1 ++ [46]) (dvAb (tw v) % 1000) 3 ++ [83]))) (va_up mX7_size wr ((dvNm (dvNm L (dvAb (tw v) / 1000) 1 ++ [46]) (dvAb (tw v) % 1000) 3 ++ [83]).length : Nat))) : wDV_X73_tell_72 MC MS post r (some wr) kd an (va_up ai qw (dvPo o L)) mX7_bytes (va_up mX7_size wr ((L.length : Nat) : Int)) mX73_millis kc ks := by
  have h0 : 0 ≤ dvAb (tw v) ∧ dvAb (tw v) < 1000000000000000 := by unfold dvAb; split <;> omega
  unfold wDV_X73_tell_72
  rw [e2, dvAb_2]
  refine ⟨hk, by omega, h0.1, ?_⟩
  generalize dvAb (tw v) = y at h0 hp ⊢
  have a1 := dvNm_l (L := L) (v := y / 1000) (least := 1) 13 (by omega) (by decide) (by decide)
  have a2 := dvL1 (L := dvNm L (y / 1000) 1) (b := 46)
  have a3 := dvNm_l (L := dvNm L (y / 1000) 1 ++ [46]) (v := y % 1000) (least := 3) 3 (by omega) (by decide) (by decide)
  exact kOn_some ⟨W.2.2.2, hk, CDV_wnum 13 W (by omega) (by decide) (by decide) (by omega) ⟨hk, CDV_add W (by decide) (by omega) ⟨hk, CDV_wnum 3 W (by omega) (by decide) (by decide) (by omega) ⟨hk, CDV_add W (by decide) (by omega) ⟨hk.1, hk.2, hp⟩⟩⟩⟩⟩
/-- spans -/
theorem CDV_tellS (W : dvWz kd an mX7_bytes wr qw) (e1 : mX73_months r = on v) (e2 : mX73_millis r = tw v) (hm : -1000000000 < on v ∧ on v < 1000000000) (hi : -1000000000000000 < tw v ∧ tw v < 1000000000000000) (T : txS so (sa 264) [77, 84]) (hp : ∀ L : List Int, L = dvTp [] (on v) (tw v) → post kd an (va_up ai qw (dvPo o L)) (va_up mX7_size wr (L.length : Nat))) : wpDV_X73_tell MC MS post kd an (va_up ai qw (dvPo o [])) mX7_bytes (va_up mX7_size wr (([] : List Int).length : Nat)) mX73_months mX73_millis sa so r (some wr) := by
  have nl := Nat.zero_le
  have hk : 0 ≤ MC ∧ 0 ≤ MS := ⟨nl _, nl _⟩
  have z0 : ((([] : List Int).length : Nat) : Int) = 0 := rfl
  unfold dvTp at hp
  have two : on v < 0 ∧ 0 < tw v ∨ 0 < on v ∧ tw v < 0 → wDV_X73_tell_36 MC MS post r (some wr) kd an (va_up ai qw (dvPo o [])) mX7_bytes (va_up mX7_size wr (([] : List Int).length : Nat)) mX73_months mX73_millis sa so 0 0 := fun w => by
    have hp := hp _ rfl
    rw [if_pos w] at hp
    unfold dvTx at hp
    have a1 := dvL1 (L := []) (b := 80)
    have a2 := dvNm_l (L := [] ++ [80]) (v := on v) (least := 1) 9 (by omega) (by decide) (by decide)
    have a3 := dvL1 (L := dvNm ([] ++ [80]) (on v) 1) (b := 77)
    have a4 := dvL1 (L := dvNm ([] ++ [80]) (on v) 1 ++ [77]) (b := 84)
    have a5 := dvL1 (L := dvNm ([] ++ [80]) (on v) 1 ++ [77] ++ [84]) (b := 45)
    have ap : dvNm ([] ++ [80]) (on v) 1 ++ [77, 84] = dvNm ([] ++ [80]) (on v) 1 ++ [77] ++ [84] := by rw [List.append_assoc]; rfl
    unfold wDV_X73_tell_36
    rw [e1, e2]
    refine kOn_some ⟨W.2.2.2, hk, CDV_add W (by decide) (by omega) ⟨hk, CDV_wnum 9 W (by omega) (by decide) (by decide) (by omega) ⟨hk, CDV_wall W T (by show _ + ((2 : Nat) : Int) ≤ 80; omega) ?_⟩⟩⟩
    rw [ap]
    refine ⟨fun q => ?_, fun q => ⟨hk, CDV_add W (by decide) (by omega) ?_⟩⟩
    · rw [if_pos q] at hp
      exact CDV_t72 hk W e2 hi (by omega) hp
    · rw [if_neg q] at hp
      exact CDV_t72 hk W e2 hi (by omega) hp
  have one : ¬ (on v < 0 ∧ 0 < tw v ∨ 0 < on v ∧ tw v < 0) → wDV_X73_tell_117 MC MS post r (some wr) kd an (va_up ai qw (dvPo o [])) mX7_bytes (va_up mX7_size wr (([] : List Int).length : Nat)) mX73_months mX73_millis 0 0 := fun w => by
    have hp := hp _ rfl
    rw [if_neg w] at hp
    have below : on v < 0 ∨ tw v < 0 → wDV_X73_tell_141 MC MS post r (some wr) kd an (va_up ai qw (dvPo o ([] ++ [45]))) mX7_bytes (va_up mX7_size wr (([] ++ [45] : List Int).length : Nat)) mX73_months mX73_millis 0 0 := fun q => by
      rw [if_pos q] at hp
      have am : dvAb (on v) = -on v := by unfold dvAb; split <;> omega
      have ai' : dvAb (tw v) = -tw v := by unfold dvAb; split <;> omega
      exact CDV_t141 hk W e1 e2 hm hi (by decide) (by rw [am, ai']; exact hp)
    unfold wDV_X73_tell_117
    rw [e1, e2]
    refine ⟨fun q => kOn_some ⟨W.2.2.2, hk, CDV_add W (by decide) (by decide) (below (Or.inl q))⟩, fun q => ⟨fun q2 => ?_, fun q2 => kOn_some ⟨W.2.2.2, hk, CDV_add W (by decide) (by decide) (below (Or.inr (by omega)))⟩⟩⟩
    rw [if_neg (by omega)] at hp
    have am : dvAb (on v) = on v := by unfold dvAb; split <;> omega
    have ai' : dvAb (tw v) = tw v := by unfold dvAb; split <;> omega
    exact CDV_t141 hk W e1 e2 hm hi (by decide) (by rw [am, ai']; exact hp)
  unfold wpDV_X73_tell
  rw [e1, e2]
  exact ⟨fun q => ⟨fun q2 => one (by omega), fun q2 => ⟨fun q3 => one (by omega), fun q3 => two (by omega)⟩⟩, fun q => ⟨fun q2 => two (by omega), fun q2 => ⟨fun q3 => one (by omega), fun q3 => ⟨fun q4 => one (by omega), fun q4 => two (by omega)⟩⟩⟩⟩
/-- rows, hex -/
theorem CDV_hch {post : Int → Prop} {d : Int} (T : txS so (sa 262) dvHL) (h : 0 ≤ d ∧ d < 16) (hp : post (dvHc d)) : wpDV_J16_charAt post sa so (sa 262) d := by
  refine CDV_chr T (by rw [dvHL_l]; omega) ?_
  rw [dvHL_g _ (by omega), show ((d.toNat : Nat) : Int) = d by omega]; exact hp
theorem CDV_lch {post : Int → Prop} {d : Int} {s : Nat} (T : txS so s dvLL) (h : 0 ≤ d ∧ d < 64) (hp : post (dvLe d)) : wpDV_J16_charAt post sa so s d := by
  refine CDV_chr T (by rw [dvLL_l]; omega) ?_
  rw [dvLL_g (by omega), show ((d.toNat : Nat) : Int) = d by omega]; exact hp
theorem CDV_th2 {K : (Nat → Int → Int) → (Nat → Int) → Prop} (hk : kc ≤ MC ∧ ks ≤ MS) (W : dvWz kd an mX7_bytes wr qw) (e0 : mX68_kind r = 7) (e1 : mX74_bytes r = some q) (nq : ¬ q = qw) (e3 : kd q = 10) (e4 : (an q : Int) = n) (hn : n ≤ 20) (e5 : ∀ i, 0 ≤ i → i < n → (-128 ≤ ai q i ∧ ai q i < 128) ∧ ai q i % 256 = bt (20 * v + i)) (T : txS so (sa 262) dvHL) : ∀ (j : Nat) (k : Int) (L : List Int), 0 ≤ k → k + j = n → (L.length : Int) + 2 * j ≤ 80 → K (va_up ai qw (dvPo o (dvHr bt v j k L))) (va_up mX7_size wr ((dvHr bt v j k L).length : Nat)) → wDV_X74_tell_2 MC MS K r (some wr) kd an mX7_bytes mX68_kind mX74_bytes sa so kc ks (j + 1) k (va_up ai qw (dvPo o L)) (va_up mX7_size wr ((L.length : Nat) : Int))
  | 0, k, L, h0, ek, hl, h => by
    rw [wDV_X74_tell_2]
    exact kOn_of e1 ⟨e3, by omega, fun _ => h, fun w => by omega⟩
  | j + 1, k, L, h0, ek, hl, h => by
    rw [wDV_X74_tell_2]
    rw [dvHr] at h
    have B := e5 k h0 (by omega)
    have l1 := dvL1 (L := L) (b := dvHc (bt (20 * v + k) / 16))
    have l2 := dvL1 (L := L ++ [dvHc (bt (20 * v + k) / 16)]) (b := dvHc (bt (20 * v + k) % 16))
    refine kOn_of e1 ⟨e3, by omega, fun w => by omega, fun w => ⟨fun _ => ⟨by omega, T.1, hk, CDV_hch T (by omega) (kOn_some ⟨W.2.2.2, hk, ?_⟩)⟩, fun w => absurd e0 w⟩⟩
    rw [va_up_ne _ _ nq, show ai q k / 16 % 16 = bt (20 * v + k) / 16 by omega]
    have c1 := dvHc_b (d := bt (20 * v + k) / 16) (by omega)
    have c2 := dvHc_b (d := bt (20 * v + k) % 16) (by omega)
    refine CDV_add W (by omega) (by omega) ⟨hk, CDV_hch T (by omega) ⟨hk, ?_⟩⟩
    rw [va_up_ne _ _ nq, show ai q k % 16 = bt (20 * v + k) % 16 by omega]
    refine CDV_add W (by omega) (by omega) ⟨by omega, fun k2 ek2 => ?_⟩
    subst ek2
    exact CDV_th2 hk W e0 e1 nq e3 e4 hn e5 T j (k + 1) _ (by omega) (by omega) (by omega) h
/-- rows, base 64 -/
theorem CDV_g5 {K : Int → Prop} {f : Nat} (e1 : mX74_bytes r = some q) (e3 : kd q = 10) (e4 : (an q : Int) = n) (hn : n ≤ 20) (hk : 0 ≤ k ∧ k ≤ 100) (hi : 0 ≤ i ∧ i < 3) (hu : 0 ≤ u ∧ u < 65536) (B : k + i < n → ai q (k + i) % 256 = y) (hy : 0 ≤ y ∧ y < 256) (hz : ¬ k + i < n → y = 0) (h : wDV_X74_group_5 K r k kd an ai mX74_bytes f (u * 256 + y) (i + 1)) : wDV_X74_group_5 K r k kd an ai mX74_bytes (f + 1) u i := by
  rw [wDV_X74_group_5]
  have g := dv_grp hu hy
  refine ⟨fun w => by omega, fun _ => kOn_of e1 ⟨e3, by omega, by omega, fun w => ?_, fun w => ⟨by omega, ?_⟩⟩⟩
  · rw [hz (by omega)] at g h
    intro u2 eu
    refine ⟨by omega, fun i2 ei => ?_⟩
    rw [eu, ei, g]; exact h
  · rw [B (by omega), g]
    intro u2 eu
    refine ⟨by omega, fun i2 ei => ?_⟩
    rw [eu, ei]; exact h
theorem CDV_g55 {K : (Nat → Int → Int) → (Nat → Int) → Prop} {f : Nat} {P ch : Int} (W : dvWz kd an mX7_bytes wr qw) (e1 : mX74_bytes r = some q) (e3 : kd q = 10) (e4 : (an q : Int) = n) (hn : n ≤ 20) (hk : 0 ≤ k ∧ k ≤ 100) (hi : 0 ≤ i ∧ i < 4) (hP : (2 : Int) ^ (18 - 6 * i).toNat = P) (T : txS so (sa 263) dvLL) (hl : (L.length : Int) < 80) (hc : ch = if n - k < i then 61 else dvLe (u / P % 64)) (h : wDV_X74_group_55 K r (some wr) k u kd an mX7_bytes mX74_bytes sa so f (i + 1) (va_up ai qw (dvPo o (L ++ [ch]))) (va_up mX7_size wr ((L ++ [ch]).length : Nat))) : wDV_X74_group_55 K r (some wr) k u kd an mX7_bytes mX74_bytes sa so (f + 1) i (va_up ai qw (dvPo o L)) (va_up mX7_size wr ((L.length : Nat) : Int)) := by
  rw [wDV_X74_group_55]
  refine ⟨fun w => by omega, fun _ => kOn_of e1 ⟨e3, by omega, by omega, fun w => ⟨by omega, by omega, T.1, ?_⟩, fun w => kOn_some ⟨W.2.2.2, ?_⟩⟩⟩
  · rw [hP]
    have d : 0 ≤ u / P % 64 ∧ u / P % 64 < 64 := by omega
    have b := dvLe_b d
    rw [if_neg (by omega)] at hc
    refine CDV_lch T d (kOn_some ⟨W.2.2.2, CDV_add W (by omega) hl ⟨by omega, fun i2 ei => ?_⟩⟩)
    rw [ei, ← hc]; exact h
  · rw [if_pos (by omega)] at hc
    refine CDV_add W (by decide) hl ⟨by omega, fun i2 ei => ?_⟩
    rw [ei, ← hc]; exact h
theorem CDV_group {post : (Nat → Int → Int) → (Nat → Int) → Prop} (W : dvWz kd an mX7_bytes wr qw) (e1 : mX74_bytes r = some q) (nq : ¬ q = qw) (e3 : kd q = 10) (e4 : (an q : Int) = n) (hn : n ≤ 20) (hk : 0 ≤ k ∧ k < n) (e5 : ∀ i, 0 ≤ i → i < n → (-128 ≤ ai q i ∧ ai q i < 128) ∧ ai q i % 256 = bt (20 * v + i)) (T : txS so (sa 263) dvLL) (hl : (L.length : Int) + 4 ≤ 80)
    (hp : ∀ L' : List Int, L' = dvBg (bt (20 * v + k)) (if n - k ≤ 1 then 0 else bt (20 * v + k + 1)) (if n - k ≤ 2 then 0 else bt (20 * v + k + 2)) (n - k) L → post (va_up ai qw (dvPo o L')) (va_up mX7_size wr (L'.length : Nat))) : wpDV_X74_group post kd an (va_up ai qw (dvPo o L)) mX7_bytes (va_up mX7_size wr ((L.length : Nat) : Int)) mX74_bytes sa so r (some wr) k := by
  unfold dvBg at hp
  have B0 := e5 k hk.1 hk.2
  have rd : ∀ j, va_up ai qw (dvPo o L) q j = ai q j := fun j => by rw [va_up_ne _ _ nq]
  generalize eb : (if n - k ≤ 1 then 0 else bt (20 * v + k + 1)) = b at hp
  generalize ec : (if n - k ≤ 2 then 0 else bt (20 * v + k + 2)) = c at hp
  have a0 : 0 ≤ bt (20 * v + k) ∧ bt (20 * v + k) < 256 := by omega
  have b1 : k + 1 < n → ai q (k + 1) % 256 = b := fun w => by
    rw [if_neg (by omega)] at eb
    rw [← eb, (e5 (k + 1) (by omega) w).2, ← Int.add_assoc]
  have c1 : k + 2 < n → ai q (k + 2) % 256 = c := fun w => by
    rw [if_neg (by omega)] at ec
    rw [← ec, (e5 (k + 2) (by omega) w).2, ← Int.add_assoc]
  have b2 : ¬ k + 1 < n → b = 0 := fun w => by rw [if_pos (by omega)] at eb; exact eb.symm
  have c2 : ¬ k + 2 < n → c = 0 := fun w => by rw [if_pos (by omega)] at ec; exact ec.symm
  have b0 : 0 ≤ b ∧ b < 256 := by
    by_cases w : k + 1 < n
    · have := b1 w; omega
    · have := b2 w; omega
  have c0 : 0 ≤ c ∧ c < 256 := by
    by_cases w : k + 2 < n
    · have := c1 w; omega
    · have := c2 w; omega
  generalize bt (20 * v + k) = A at a0 hp B0
  unfold wpDV_X74_group
  refine ⟨4, CDV_g5 (y := A) e1 e3 e4 hn (by omega) (by decide) (by decide) (fun w => by rw [rd, Int.add_zero]; exact B0.2) a0 (fun w => by omega) (CDV_g5 (y := b) e1 e3 e4 hn (by omega) (by decide) (by omega) (fun w => by rw [rd]; exact b1 w) b0 (fun w => b2 w) (CDV_g5 (y := c) e1 e3 e4 hn (by omega) (by decide) (by omega) (fun w => by rw [rd]; exact c1 w) c0 (fun w => c2 w) ?_))⟩
  rw [wDV_X74_group_5]
  refine ⟨fun _ => ?_, fun w => absurd (by decide) w⟩
  have l1 := dvL1 (L := L) (b := dvLe (A / 4))
  have l2 := dvL1 (L := L ++ [dvLe (A / 4)]) (b := dvLe (A % 4 * 16 + b / 16))
  have l3 := dvL1 (L := L ++ [dvLe (A / 4)] ++ [dvLe (A % 4 * 16 + b / 16)]) (b := if n - k ≤ 1 then 61 else dvLe (b % 16 * 4 + c / 64))
  refine ⟨5, CDV_g55 (P := 262144) W e1 e3 e4 hn (by omega) (by decide) (by decide) T (by omega) (ch := dvLe (A / 4)) ?_ (CDV_g55 (P := 4096) W e1 e3 e4 hn (by omega) (by decide) (by decide) T (by omega) (ch := dvLe (A % 4 * 16 + b / 16)) ?_ (CDV_g55 (P := 64) W e1 e3 e4 hn (by omega) (by decide) (by decide) T (by omega) (ch := if n - k ≤ 1 then 61 else dvLe (b % 16 * 4 + c / 64)) ?_ (CDV_g55 (P := 1) W e1 e3 e4 hn (by omega) (by decide) (by decide) T (by omega) (ch := if n - k ≤ 2 then 61 else dvLe (c % 64)) ?_ ?_)))⟩
  · rw [if_neg (by omega), show ((0 * 256 + A) * 256 + b) * 256 + c = A * 65536 + b * 256 + c by omega, show (A * 65536 + b * 256 + c) / 262144 % 64 = A / 4 by omega]
  · rw [if_neg (by omega), show (((0 * 256 + A) * 256 + b) * 256 + c) / 4096 % 64 = A % 4 * 16 + b / 16 by omega]
  · rw [show (((0 * 256 + A) * 256 + b) * 256 + c) / 64 % 64 = b % 16 * 4 + c / 64 by omega]
    by_cases w : n - k ≤ 1
    · rw [if_pos w, if_pos (by omega)]
    · rw [if_neg w, if_neg (by omega)]
  · rw [show (((0 * 256 + A) * 256 + b) * 256 + c) / 1 % 64 = c % 64 by omega]
    by_cases w : n - k ≤ 2
    · rw [if_pos w, if_pos (by omega)]
    · rw [if_neg w, if_neg (by omega)]
  · rw [wDV_X74_group_55]
    exact ⟨fun _ => hp _ rfl, fun w => absurd (by decide) w⟩
theorem CDV_tb66 {K : (Nat → Int → Int) → (Nat → Int) → Prop} (hk : kc ≤ MC ∧ ks ≤ MS) (W : dvWz kd an mX7_bytes wr qw) (e0 : mX68_kind r = 8) (e1 : mX74_bytes r = some q) (nq : ¬ q = qw) (e3 : kd q = 10) (e4 : (an q : Int) = n) (hn : n ≤ 20) (e5 : ∀ i, 0 ≤ i → i < n → (-128 ≤ ai q i ∧ ai q i < 128) ∧ ai q i % 256 = bt (20 * v + i)) (T : txS so (sa 263) dvLL) : ∀ (j : Nat) (k : Int) (L : List Int), 0 ≤ k → n ≤ k + 3 * j → 0 < j → (L.length : Int) + 4 * j ≤ 80 → K (va_up ai qw (dvPo o (dvBr bt v n j k L))) (va_up mX7_size wr ((dvBr bt v n j k L).length : Nat)) → wDV_X74_tell_66 MC MS K r (some wr) kd an mX7_bytes mX68_kind mX74_bytes sa so kc ks (j + 1) k (va_up ai qw (dvPo o L)) (va_up mX7_size wr ((L.length : Nat) : Int))
  | 0, k, L, h0, ek, j0, hl, h => absurd j0 (by decide)
  | j + 1, k, L, h0, ek, j0, hl, h => by
    rw [wDV_X74_tell_66]
    rw [dvBr] at h
    refine kOn_of e1 ⟨e3, by omega, fun w => ?_, fun w => ⟨fun _ => ⟨hk, CDV_group W e1 nq e3 e4 hn ⟨h0, by omega⟩ e5 T (by omega) (fun L' eL => ⟨by omega, fun k2 ek2 => ?_⟩)⟩, fun w => absurd e0 w⟩⟩
    · rw [if_pos (by omega)] at h; exact h
    · rw [if_neg (by omega), ← eL] at h
      subst ek2
      have l4 : (L'.length : Int) = L.length + 4 := by rw [eL]; unfold dvBg; rw [dvL1, dvL1, dvL1, dvL1]; omega
      cases j with
      | zero =>
        rw [wDV_X74_tell_66]
        rw [dvBr] at h
        exact kOn_of e1 ⟨e3, by omega, fun _ => h, fun w => by omega⟩
      | succ i => exact CDV_tb66 hk W e0 e1 nq e3 e4 hn e5 T (i + 1) (k + 3) L' (by omega) (by omega) (by omega) (by omega) h
theorem CDV_tellR (W : dvWz kd an mX7_bytes wr qw) (e0 : mX68_kind r = kn v) (hk : 6 < kn v ∧ kn v ≤ 8) (e1 : mX74_bytes r = some q) (nq : ¬ q = qw) (e3 : kd q = 10) (e4 : (an q : Int) = on v) (hn : 0 ≤ on v ∧ on v ≤ 20) (e5 : ∀ i, 0 ≤ i → i < on v → (-128 ≤ ai q i ∧ ai q i < 128) ∧ ai q i % 256 = bt (20 * v + i)) (T1 : txS so (sa 262) dvHL) (T2 : txS so (sa 263) dvLL) (hp : ∀ L : List Int, L = (if kn v = 7 then dvHr bt v (on v).toNat 0 [] else dvBr bt v (on v) 8 0 []) → post kd an (va_up ai qw (dvPo o L)) (va_up mX7_size wr (L.length : Nat))) : wpDV_X74_tell MC MS post kd an (va_up ai qw (dvPo o [])) mX7_bytes (va_up mX7_size wr (([] : List Int).length : Nat)) mX68_kind mX74_bytes sa so r (some wr) := by
  have nl := Nat.zero_le
  have z0 : ((([] : List Int).length : Nat) : Int) = 0 := rfl
  unfold wpDV_X74_tell
  by_cases k7 : kn v = 7
  · rw [if_pos k7] at hp
    refine ⟨(on v).toNat + 1, CDV_th2 ⟨nl _, nl _⟩ W (by omega) e1 nq e3 e4 hn.2 e5 T1 (on v).toNat 0 [] (by decide) (by omega) (by omega) ⟨1, ?_⟩⟩
    rw [wDV_X74_tell_66]
    exact kOn_of e1 ⟨e3, by omega, fun _ => ⟨nl _, nl _, hp _ rfl⟩, fun _ => ⟨fun w => by omega, fun _ => ⟨nl _, nl _, hp _ rfl⟩⟩⟩
  · rw [if_neg k7] at hp
    refine ⟨1, ?_⟩
    rw [wDV_X74_tell_2]
    have nxt : ∃ fu : Nat, wDV_X74_tell_66 MC MS (fun (ai_39 : Nat → Int → Int) (s_40 : Nat → Int) => (0 ≤ MC ∧ 0 ≤ MS ∧ post kd an ai_39 s_40)) r (some wr) kd an mX7_bytes mX68_kind mX74_bytes sa so 0 0 fu 0 (va_up ai qw (dvPo o [])) (va_up mX7_size wr (([] : List Int).length : Nat)) :=
      ⟨9, CDV_tb66 ⟨nl _, nl _⟩ W (by omega) e1 nq e3 e4 hn.2 e5 T2 8 0 [] (by decide) (by omega) (by decide) (by omega) ⟨nl _, nl _, hp _ rfl⟩⟩
    exact kOn_of e1 ⟨e3, by omega, fun _ => nxt, fun _ => ⟨fun w => by omega, fun _ => nxt⟩⟩
end

/-! DatatypeValues, the component: a value told; bytes typed -/
section
variable {kd : Nat → Nat} {an : Nat → Nat} {ai : Nat → Int → Int} {al : Nat → Int → Int} {ar : Nat → Int → Option Nat} {mX6_tape : Nat → Option Nat} {mX6_size : Nat → Int} {mX6_values : Nat → Option Nat} {mX6_count : Nat → Int} {mX6_writer : Nat → Option Nat} {mX7_bytes : Nat → Option Nat} {mX7_size : Nat → Int} {mX67_tape : Nat → Option Nat} {mX67_size : Nat → Int} {mX67_at : Nat → Int} {mX67_wrong : Nat → Option Nat} {mX67_place : Nat → Int} {mX68_kind : Nat → Int} {mX69_upper : Nat → Int} {mX69_lower : Nat → Int} {mX70_is : Nat → Int} {mX72_millis : Nat → Int} {mX72_zone : Nat → Int} {mX73_months : Nat → Int} {mX73_millis : Nat → Int} {mX74_bytes : Nat → Option Nat} {sa : Nat → Nat} {so : kSo} {wr qw x r q qt qv : Nat} {o o2 o3 kn on tw bt row tp tp' : Int → Int} {L : List Int} {b v y k one two n c sz sz' os lf m i e u R X : Int} {MC MS kc ks : Nat}
theorem dvO.aw (O : dvO (kd, an, ai, al, ar, mX6_tape, mX6_size, mX6_values, mX6_count, mX6_writer, mX7_bytes, mX7_size, mX67_tape, mX67_size, mX67_at, mX67_wrong, mX67_place, mX68_kind, mX69_upper, mX69_lower, mX70_is, mX72_millis, mX72_zone, mX73_months, mX73_millis, mX74_bytes) qt qw r k one two row) {w : Nat} {f : Int → Int} {g : Nat → Int} (hw : w = qt ∨ w = qw) : dvO (kd, an, (va_up ai w f), al, ar, mX6_tape, mX6_size, mX6_values, mX6_count, mX6_writer, mX7_bytes, g, mX67_tape, mX67_size, mX67_at, mX67_wrong, mX67_place, mX68_kind, mX69_upper, mX69_lower, mX70_is, mX72_millis, mX72_zone, mX73_months, mX73_millis, mX74_bytes) qt qw r k one two row := by
  obtain ⟨o0, o1, o2, o3, o4, o5⟩ := O
  refine ⟨o0, o1, o2, o3, o4, fun k6 => ?_⟩
  obtain ⟨z, b, e1, e2, e3, e4, e5⟩ := o5 k6
  have nb : ¬ b = w := fun e => by
    rcases hw with h | h
    · exact e2.1 (by rw [e, h])
    · exact e2.2 (by rw [e, h])
  refine ⟨z, b, e1, e2, e3, e4, fun i i0 i1 => ?_⟩
  dsimp only [HpDV.kd, HpDV.an, HpDV.ai, HpDV.al, HpDV.ar, HpDV.mX6_tape, HpDV.mX6_size, HpDV.mX6_values, HpDV.mX6_count, HpDV.mX6_writer, HpDV.mX7_bytes, HpDV.mX7_size, HpDV.mX67_tape, HpDV.mX67_size, HpDV.mX67_at, HpDV.mX67_wrong, HpDV.mX67_place, HpDV.mX68_kind, HpDV.mX69_upper, HpDV.mX69_lower, HpDV.mX70_is, HpDV.mX72_millis, HpDV.mX72_zone, HpDV.mX73_months, HpDV.mX73_millis, HpDV.mX74_bytes] at e5 ⊢
  rw [va_up_ne _ _ nb]
  exact e5 i i0 i1
theorem dvC.tell (C : dvC (kd, an, ai, al, ar, mX6_tape, mX6_size, mX6_values, mX6_count, mX6_writer, mX7_bytes, mX7_size, mX67_tape, mX67_size, mX67_at, mX67_wrong, mX67_place, mX68_kind, mX69_upper, mX69_lower, mX70_is, mX72_millis, mX72_zone, mX73_months, mX73_millis, mX74_bytes) x qt qv wr qw tp sz c kn on tw bt os o) : dvC (kd, an, (va_up ai qw (dvPo o2 L)), al, ar, mX6_tape, mX6_size, mX6_values, mX6_count, mX6_writer, mX7_bytes, (va_up mX7_size wr (L.length : Nat)), mX67_tape, mX67_size, mX67_at, mX67_wrong, mX67_place, mX68_kind, mX69_upper, mX69_lower, mX70_is, mX72_millis, mX72_zone, mX73_months, mX73_millis, mX74_bytes) x qt qv wr qw tp sz c kn on tw bt (L.length : Nat) (dvPo o3 L) := by
  obtain ⟨⟨a1, a2, a3, a4, a5, a6⟩, B, ⟨c1, c2, c6, c7, c8⟩, d⟩ := C
  refine ⟨⟨a1, a2, a3, a4, ?_, a6⟩, B, ⟨c1, c2, c6, va_up_self _ _ _, fun i i0 i1 => ?_⟩, fun v v0 v1 => ?_⟩
  · dsimp only [HpDV.kd, HpDV.an, HpDV.ai, HpDV.al, HpDV.ar, HpDV.mX6_tape, HpDV.mX6_size, HpDV.mX6_values, HpDV.mX6_count, HpDV.mX6_writer, HpDV.mX7_bytes, HpDV.mX7_size, HpDV.mX67_tape, HpDV.mX67_size, HpDV.mX67_at, HpDV.mX67_wrong, HpDV.mX67_place, HpDV.mX68_kind, HpDV.mX69_upper, HpDV.mX69_lower, HpDV.mX70_is, HpDV.mX72_millis, HpDV.mX72_zone, HpDV.mX73_months, HpDV.mX73_millis, HpDV.mX74_bytes] at a5 ⊢
    rw [va_up_ne _ _ (fun e => c6 e.symm)]; exact a5
  · dsimp only [HpDV.kd, HpDV.an, HpDV.ai, HpDV.al, HpDV.ar, HpDV.mX6_tape, HpDV.mX6_size, HpDV.mX6_values, HpDV.mX6_count, HpDV.mX6_writer, HpDV.mX7_bytes, HpDV.mX7_size, HpDV.mX67_tape, HpDV.mX67_size, HpDV.mX67_at, HpDV.mX67_wrong, HpDV.mX67_place, HpDV.mX68_kind, HpDV.mX69_upper, HpDV.mX69_lower, HpDV.mX70_is, HpDV.mX72_millis, HpDV.mX72_zone, HpDV.mX73_months, HpDV.mX73_millis, HpDV.mX74_bytes]
    rw [va_up_self]
    unfold dvPo
    rw [if_pos ⟨i0, i1⟩, if_pos ⟨i0, i1⟩]
  · obtain ⟨r, er, O⟩ := d v v0 v1
    exact ⟨r, er, dvO.aw O (Or.inr rfl)⟩
theorem CDV_tell {post : Int → (Nat → Nat) → (Nat → Nat) → (Nat → Int → Int) → (Nat → Int) → Prop} (hM : 1 ≤ MC ∧ 3 ≤ MS) (C : dvC (kd, an, ai, al, ar, mX6_tape, mX6_size, mX6_values, mX6_count, mX6_writer, mX7_bytes, mX7_size, mX67_tape, mX67_size, mX67_at, mX67_wrong, mX67_place, mX68_kind, mX69_upper, mX69_lower, mX70_is, mX72_millis, mX72_zone, mX73_months, mX73_millis, mX74_bytes) x qt qv wr qw tp sz c kn on tw bt os o) (V : dvVs c kn on tw bt) (T1 : txS so (sa 262) dvHL) (T2 : txS so (sa 263) dvLL) (T3 : txS so (sa 264) [77, 84]) (T4 : txS so (sa 265) (dvWd 1953658213 4)) (T5 : txS so (sa 266) (dvWd 439721161573 5))
    (h0 : ¬ (0 ≤ v ∧ v < c) → post (-1) kd an ai mX7_size) (h1 : 0 ≤ v ∧ v < c → ∀ kd an ai mX7_size, dvC (kd, an, ai, al, ar, mX6_tape, mX6_size, mX6_values, mX6_count, mX6_writer, mX7_bytes, mX7_size, mX67_tape, mX67_size, mX67_at, mX67_wrong, mX67_place, mX68_kind, mX69_upper, mX69_lower, mX70_is, mX72_millis, mX72_zone, mX73_months, mX73_millis, mX74_bytes) x qt qv wr qw tp sz c kn on tw bt ((dvTl kn on tw bt v).length : Nat) (dvPo o (dvTl kn on tw bt v)) → post ((dvTl kn on tw bt v).length : Nat) kd an ai mX7_size) : wpDV_X6_tell MC MS post kd an ai ar mX6_values mX6_count mX6_writer mX7_bytes mX7_size mX68_kind mX69_upper mX69_lower mX70_is mX72_millis mX72_zone mX73_months mX73_millis mX74_bytes sa so x v := by
  have nl := Nat.zero_le
  have wr1 : mX6_writer x = some wr := C.2.2.1.1
  have W : dvWz kd an mX7_bytes wr qw := C.2.2.1.2.1
  unfold wpDV_X6_tell
  refine ⟨⟨nl _, nl _⟩, CDV_at C V.1.2 (fun q => ⟨fun _ => ⟨nl _, nl _, h0 q⟩, fun b e => (nomatch e)⟩) (fun v0 v1 r O => ⟨fun e => (nomatch e), fun r2 e => kOn_of wr1 ⟨W.2.2.2, fun z ez => ?_⟩⟩)⟩
  cases e
  have H := h1 ⟨v0, v1⟩
  have Vv := V.2 v v0 v1
  have V1 := Vv.1
  have hv := V1.1
  obtain ⟨g0, K⟩ := O.cs hv
  refine ⟨O.kd' hv, 1, 3, by omega, ?_⟩
  rw [wr1, ez]
  rw [← dvPo_0 (ai := ai) (qw := qw)]
  have fin : ∀ L : List Int, L = dvTl kn on tw bt v → post ((dvTl kn on tw bt v).length : Nat) kd an (va_up ai qw (dvPo (ai qw) L)) (va_up mX7_size wr (L.length : Nat)) := fun L eL => by
    refine H _ _ _ _ ?_
    rw [eL]
    exact C.tell
  unfold wpDDV_X69_tell_4_5_6_7_8
  rcases K with ⟨k, kr, e1, e2⟩ | ⟨k, kr, e1⟩ | ⟨k, kr, e1, e2⟩ | ⟨k, kr, e1, e2⟩ | ⟨k, kr, q, e1, e2, e3, e4, e5⟩
  · refine Or.inl ⟨kr, CDV_tellN W e1 e2 (V1.2.1 k) (fun L eL _ => ⟨by omega, by omega, ?_⟩)⟩
    have eT : dvTl kn on tw bt v = L := by unfold dvTl; rw [if_neg (by omega), if_neg (by omega), if_neg (by omega), if_neg (by omega), if_neg (by omega)]; exact eL.symm
    rw [va_up_self]
    have F := fin L eT.symm
    rw [eT] at F
    exact F
  · refine Or.inr (Or.inl ⟨kr, CDV_tellT W e1 (V1.2.2.1 k).1 T4 T5 (fun L eL _ => ⟨by omega, by omega, ?_⟩)⟩)
    have eT : dvTl kn on tw bt v = L := by unfold dvTl; rw [if_pos k]; exact eL.symm
    rw [va_up_self]
    have F := fin L eT.symm
    rw [eT] at F
    exact F
  · refine Or.inr (Or.inr (Or.inl ⟨kr, CDV_tellM (by decide) W g0 e1 e2 (V1.2.2.2.1 k).1 (V1.2.2.2.1 k).2 (fun L q D hq eL _ => ⟨by omega, by omega, ?_⟩)⟩))
    have eT : dvTl kn on tw bt v = L := by unfold dvTl; rw [if_neg (by omega), if_pos k]; exact eL.symm
    have C2 := C.kp V (dvKp.d (D := D) hq)
    have C3 := dvC.tell (o2 := ai qw) (o3 := o) (L := L) C2
    rw [va_up_self]
    rw [eT] at H
    exact H _ _ _ _ C3
  · refine Or.inr (Or.inr (Or.inr (Or.inl ⟨kr, CDV_tellS W e1 e2 (V1.2.2.2.2.1 k).1 (V1.2.2.2.2.1 k).2 T3 (fun L eL _ => ⟨by omega, by omega, ?_⟩)⟩)))
    have eT : dvTl kn on tw bt v = L := by unfold dvTl; rw [if_neg (by omega), if_neg (by omega), if_pos k]; exact eL.symm
    rw [va_up_self]
    have F := fin L eT.symm
    rw [eT] at F
    exact F
  · refine Or.inr (Or.inr (Or.inr (Or.inr ⟨kr, CDV_tellR W g0 ⟨k, hv.2⟩ e1 e2.2 e3 e4 (V1.2.2.2.2.2 k).1 e5 T1 T2 (fun L eL _ => ⟨by omega, by omega, ?_⟩)⟩)))
    have eT : dvTl kn on tw bt v = L := by
      unfold dvTl
      rw [if_neg (by omega), if_neg (by omega), if_neg (by omega)]
      by_cases k7 : kn v = 7
      · rw [if_pos k7] at eL ⊢; exact eL.symm
      · rw [if_neg k7] at eL ⊢; rw [if_pos (by omega)]; exact eL.symm
    rw [va_up_self]
    have F := fin L eT.symm
    rw [eT] at F
    exact F
theorem dvC.type (C : dvC (kd, an, ai, al, ar, mX6_tape, mX6_size, mX6_values, mX6_count, mX6_writer, mX7_bytes, mX7_size, mX67_tape, mX67_size, mX67_at, mX67_wrong, mX67_place, mX68_kind, mX69_upper, mX69_lower, mX70_is, mX72_millis, mX72_zone, mX73_months, mX73_millis, mX74_bytes) x qt qv wr qw tp sz c kn on tw bt os o) : dvC (kd, an, (va_up ai qt tp'), al, ar, mX6_tape, (va_up mX6_size x sz'), mX6_values, mX6_count, mX6_writer, mX7_bytes, mX7_size, mX67_tape, mX67_size, mX67_at, mX67_wrong, mX67_place, mX68_kind, mX69_upper, mX69_lower, mX70_is, mX72_millis, mX72_zone, mX73_months, mX73_millis, mX74_bytes) x qt qv wr qw tp' sz' c kn on tw bt os o := by
  obtain ⟨⟨a1, a2, a3, a4, a5, a6⟩, B, ⟨c1, c2, c6, c7, c8⟩, d⟩ := C
  refine ⟨⟨a1, a2, a3, a4, va_up_self _ _ _, va_up_self _ _ _⟩, B, ⟨c1, c2, c6, c7, fun i i0 i1 => ?_⟩, fun v v0 v1 => ?_⟩
  · dsimp only [HpDV.kd, HpDV.an, HpDV.ai, HpDV.al, HpDV.ar, HpDV.mX6_tape, HpDV.mX6_size, HpDV.mX6_values, HpDV.mX6_count, HpDV.mX6_writer, HpDV.mX7_bytes, HpDV.mX7_size, HpDV.mX67_tape, HpDV.mX67_size, HpDV.mX67_at, HpDV.mX67_wrong, HpDV.mX67_place, HpDV.mX68_kind, HpDV.mX69_upper, HpDV.mX69_lower, HpDV.mX70_is, HpDV.mX72_millis, HpDV.mX72_zone, HpDV.mX73_months, HpDV.mX73_millis, HpDV.mX74_bytes] at c8 ⊢
    rw [va_up_ne _ _ c6]; exact c8 i i0 i1
  · obtain ⟨r, er, O⟩ := d v v0 v1
    exact ⟨r, er, dvO.aw (g := mX7_size) O (Or.inl rfl)⟩
theorem CDV_type {post : Int → (Nat → Int → Int) → (Nat → Int) → Prop} (C : dvC (kd, an, ai, al, ar, mX6_tape, mX6_size, mX6_values, mX6_count, mX6_writer, mX7_bytes, mX7_size, mX67_tape, mX67_size, mX67_at, mX67_wrong, mX67_place, mX68_kind, mX69_upper, mX69_lower, mX70_is, mX72_millis, mX72_zone, mX73_months, mX73_millis, mX74_bytes) x qt qv wr qw tp sz c kn on tw bt os o) (hs : 0 ≤ sz ∧ sz ≤ 64) (h1 : ¬ (1 ≤ n ∧ n ≤ 8) → post (-1) ai mX6_size) (h3 : (1 ≤ n ∧ n ≤ 8) → 64 < sz + n → post (-3) ai mX6_size) (h0 : (1 ≤ n ∧ n ≤ 8) → sz + n ≤ 64 → dvC (kd, an, (va_up ai qt (dvTq tp sz X n n)), al, ar, mX6_tape, (va_up mX6_size x (sz + n)), mX6_values, mX6_count, mX6_writer, mX7_bytes, mX7_size, mX67_tape, mX67_size, mX67_at, mX67_wrong, mX67_place, mX68_kind, mX69_upper, mX69_lower, mX70_is, mX72_millis, mX72_zone, mX73_months, mX73_millis, mX74_bytes) x qt qv wr qw (dvTq tp sz X n n) (sz + n) c kn on tw bt os o → post (sz + n) (va_up ai qt (dvTq tp sz X n n)) (va_up mX6_size x (sz + n))) : wpDV_X6_type post kd an ai mX6_tape mX6_size x X n := by
  have a2 : mX6_tape x = some qt := C.1.2.1
  have a3 : kd qt = 10 := C.1.2.2.1
  have a4 : an qt = 64 := C.1.2.2.2.1
  have a5 : ai qt = tp := C.1.2.2.2.2.1
  have a6 : mX6_size x = sz := C.1.2.2.2.2.2
  unfold wpDV_X6_type
  rw [a6]
  refine ⟨fun w => h1 (by omega), fun w => ⟨fun w8 => ⟨by omega, fun ws => ⟨by omega, fun k ek => ?_⟩, fun ws => h3 (by omega) (by omega)⟩, fun w8 => h1 (by omega)⟩⟩
  have H := h0 (by omega) ws (dvC.type C)
  have s0 : mX6_size = va_up mX6_size x sz := funext fun z => by
    by_cases e : z = x
    · rw [e, va_up_self, a6]
    · rw [va_up_ne _ _ e]
  have t0 : ai = va_up ai qt (dvTq tp sz X n 0) := funext fun z => by
    by_cases e : z = qt
    · rw [e, va_up_self, a5]; exact funext fun i => by unfold dvTq; rw [if_neg (by omega)]
    · rw [va_up_ne _ _ e]
  have key : ∀ (j : Nat) (k : Int), (j : Int) = k + 1 → k ≤ n - 1 → wDV_X6_type_32 (fun (ai_32 : Nat → Int → Int) (s_33 : Nat → Int) => post (s_33 x) ai_32 s_33) x X kd an mX6_tape (j + 1) k (va_up ai qt (dvTq tp sz X n (n - 1 - k))) (va_up mX6_size x (sz + (n - 1 - k))) := fun j => by
    induction j with
    | zero =>
      intro k ek hk
      rw [wDV_X6_type_32]
      have : k = -1 := by omega
      subst this
      refine ⟨fun _ => ?_, fun w => absurd (by decide) w⟩
      rw [va_up_self, show n - 1 - -1 = n by omega]; exact H
    | succ j ih =>
      intro k ek hk
      rw [wDV_X6_type_32]
      refine ⟨fun w => by omega, fun _ => ⟨by omega, by omega, fun w ew => kOn_of a2 ⟨a3, by rw [va_up_self, a4]; omega, by rw [ew]; exact dv_w8, fun a ea => ⟨by rw [va_up_self]; omega, fun s es z ez => ⟨by omega, fun k2 ek2 => ?_⟩⟩⟩⟩⟩
      simp only [va_up_self, va_up_up] at es ea ez
      have I := ih k2 (by omega) (by omega)
      rw [show n - 1 - k2 = n - 1 - k + 1 by omega] at I
      rw [ea, ez, es, show sz + (n - 1 - k) + 1 = sz + (n - 1 - k + 1) by omega]
      have eq : updI (dvTq tp sz X n (n - 1 - k)) (sz + (n - 1 - k)) w = dvTq tp sz X n (n - 1 - k + 1) := funext fun i => by
        unfold updI dvTq
        by_cases e : i = sz + (n - 1 - k)
        · rw [if_pos e, if_pos (by omega), ew, e, show n - 1 - (sz + (n - 1 - k) - sz) = k by omega]
        · rw [if_neg e]
          by_cases w2 : sz ≤ i ∧ i < sz + (n - 1 - k)
          · rw [if_pos w2, if_pos (by omega)]
          · rw [if_neg w2, if_neg (by omega)]
      rw [eq]; exact I
  refine ⟨n.toNat + 1, ?_⟩
  have K := key n.toNat k (by omega) (by omega)
  rw [show n - 1 - k = 0 by omega, Int.add_zero, ← s0, ← t0] at K
  exact K
end

/-! DatatypeValues: what is read and reckoned lies in its ranges (plain) -/
def dvF (P : Int → Int → Prop) (r : Int × Int × Int) : Prop := (r.1 = -1 ∧ P r.2.1 r.2.2) ∨ 0 ≤ r.1
def dvF4 (P : Int → Int → Int → Prop) (r : Int × Int × Int × Int) : Prop := (r.1 = -1 ∧ P r.2.1 r.2.2.1 r.2.2.2) ∨ 0 ≤ r.1
section
variable {P Q : Int → Int → Prop} {P4 : Int → Int → Int → Prop} {r : Int × Int × Int} {tp row : Int → Int} {sz a b lo hi least one two n f kind : Int} {most : Nat}
theorem dvF_b {k : Int → Int → Int × Int × Int} (h : dvF P r) (hk : ∀ a v, P a v → dvF Q (k a v)) : dvF Q (dvB r k) := by
  rcases h with ⟨e, p⟩ | e
  · rw [dvB_k e]; exact hk _ _ p
  · rw [dvB_f e]; exact Or.inr e
theorem dvF_b4 {k : Int → Int → Int × Int × Int × Int} (h : dvF P r) (hk : ∀ a v, P a v → dvF4 P4 (k a v)) : dvF4 P4 (dvB4 r k) := by
  rcases h with ⟨e, p⟩ | e
  · rw [dvB4_k e]; exact hk _ _ p
  · rw [dvB4_f e]; exact Or.inr e
theorem dvDg_p : a ≤ (dvDg tp sz least most a).2.1 := by
  have N := dvN_s (tp := tp) (sz := sz) (at_ := a) (most := most)
  show a ≤ a + dvN tp sz a most
  omega
theorem dvF_dg (h : 0 ≤ a) (hm : most ≤ 9) : dvF (fun a' v => a ≤ a' ∧ 0 ≤ v ∧ v < 1000000000) (dvDg tp sz least most a) := by
  rcases dvDg_f (tp := tp) (sz := sz) (least := least) (most := most) h with e | e
  · exact Or.inl ⟨e, dvDg_p, dvDg_b hm⟩
  · exact Or.inr e
theorem dvF_d4 (h : 0 ≤ a) : dvF (fun a' v => a ≤ a' ∧ 0 ≤ v ∧ v < 10000) (dvDg tp sz least 4 a) := by
  rcases dvDg_f (tp := tp) (sz := sz) (least := least) (most := 4) h with e | e
  · exact Or.inl ⟨e, dvDg_p, (dvDg_b (by decide)).1, dvV_4 (Nat.le_refl 4)⟩
  · exact Or.inr e
theorem dvF_wr (h : 0 ≤ a) : dvF (fun a' _ => a' = a + 1) (dvWr tp sz b a) := by
  rcases dvWt_1 (tp := tp) (sz := sz) (b := b) h with e | e
  · exact Or.inl ⟨e.1, rfl⟩
  · exact Or.inr (by show 0 ≤ dvWt tp sz b a; omega)
theorem dvF_pr (h : 0 ≤ a) : dvF (fun a' v => a ≤ a' ∧ lo ≤ v ∧ v ≤ hi) (dvPr tp sz lo hi a) := by
  rcases dvPr_1 (tp := tp) (sz := sz) (lo := lo) (hi := hi) h with e | e
  · refine Or.inl ⟨e, ?_, (dvPr_b h).2.2 e⟩
    rw [(dvPr_c h).1]; exact dvDg_p
  · exact Or.inr e
theorem dvF_i {p : Prop} [Decidable p] {x y : Int × Int × Int} (h1 : p → dvF P x) (h0 : ¬ p → dvF P y) : dvF P (if p then x else y) := by
  by_cases w : p
  · rw [if_pos w]; exact h1 w
  · rw [if_neg w]; exact h0 w
theorem dvF4_i {p : Prop} [Decidable p] {x y : Int × Int × Int × Int} (h1 : p → dvF4 P4 x) (h0 : ¬ p → dvF4 P4 y) : dvF4 P4 (if p then x else y) := by
  by_cases w : p
  · rw [if_pos w]; exact h1 w
  · rw [if_neg w]; exact h0 w
theorem dvOf_9 {y m d : Int} (hy : 1 ≤ y ∧ y ≤ 9999) (hm : 1 ≤ m ∧ m ≤ 12) (hd : 1 ≤ d ∧ d ≤ 31) : -719162 ≤ dvOf y m d ∧ dvOf y m d < 2932897 := by
  have go : ∀ Y M : Int, (0 ≤ Y ∧ Y ≤ 9999) → (0 ≤ M ∧ M ≤ 11) → (M ≤ 9 → 1 ≤ Y) → (10 ≤ M → Y ≤ 9998) → -719162 ≤ 365 * Y + Y / 4 - Y / 100 + Y / 400 + (153 * M + 2) / 5 + d - 719469 ∧ 365 * Y + Y / 4 - Y / 100 + Y / 400 + (153 * M + 2) / 5 + d - 719469 < 2932897 := fun Y M h1 h2 h3 h4 => by
    by_cases t : Y = 9999
    · subst t
      have hM : M ≤ 9 := Int.not_lt.mp (fun w => by have := h4 (by omega); omega)
      rw [show (9999 : Int) / 4 = 2499 by decide, show (9999 : Int) / 100 = 99 by decide, show (9999 : Int) / 400 = 24 by decide]
      omega
    · by_cases z : Y = 0
      · subst z
        have hM : 10 ≤ M := Int.not_lt.mp (fun w => by have := h3 (by omega); omega)
        rw [show (0 : Int) / 4 = 0 by decide, show (0 : Int) / 100 = 0 by decide, show (0 : Int) / 400 = 0 by decide]
        omega
      · have y1 : 1 ≤ Y ∧ Y ≤ 9998 := by omega
        clear h3 h4 h1 t z
        have s1 : Y / 4 - Y / 100 + Y / 400 ≤ 2425 := by omega
        have s2 : 0 ≤ Y / 4 - Y / 100 + Y / 400 := by omega
        have s3 : 0 ≤ (153 * M + 2) / 5 ∧ (153 * M + 2) / 5 ≤ 337 := by omega
        omega
  unfold dvOf
  by_cases c : m < 3
  · rw [if_pos c, if_pos c]
    exact go (y - 1) (m + 9) (by omega) (by omega) (fun w => by omega) (fun w => by omega)
  · rw [if_neg c, if_neg c]
    exact go y (m - 3) (by omega) (by omega) (fun w => by omega) (fun w => by omega)
theorem dvF_dy (h : 0 ≤ a) : dvF (fun a' v => 0 ≤ a' ∧ -719162 ≤ v ∧ v < 2932897) (dvDy tp sz a) := by
  unfold dvDy
  refine dvF_b (dvF_d4 h) (fun a1 y p1 => dvF_i (fun _ => Or.inr h) (fun y0 => dvF_b (dvF_wr (by omega)) (fun a2 _ p2 => dvF_b (dvF_pr (by omega)) (fun a3 m p3 => dvF_b (dvF_wr (by omega)) (fun a4 _ p4 => dvF_b (dvF_pr (by omega)) (fun a5 d p5 => Or.inl ⟨rfl, ?_, ?_⟩))))))
  · show 0 ≤ a5; omega
  · have L := dvLn_b (y := y) (m := m)
    exact dvOf_9 (by omega) p3.2 (by omega)
theorem dvF_z1 {sg : Int} (hs : sg = 1 ∨ sg = -1) (h : 0 ≤ a) : dvF (fun a' v => 0 ≤ a' ∧ -900 ≤ v ∧ v ≤ 900) (dvZ1 tp sz sg a) := by
  unfold dvZ1
  refine dvF_b (dvF_pr h) (fun a1 hh p1 => dvF_b (dvF_wr (by omega)) (fun a2 _ p2 => dvF_b (dvF_pr (by omega)) (fun a3 m p3 => Or.inl ⟨rfl, ?_, ?_⟩)))
  · show 0 ≤ a3; omega
  · have m59 : 0 ≤ m ∧ m ≤ 59 := by
      have := p3.2.2
      split at this <;> omega
    show -900 ≤ sg * (60 * hh + m) ∧ sg * (60 * hh + m) ≤ 900
    rcases hs with e | e
    · rw [e, Int.one_mul]; omega
    · rw [e, Int.neg_mul, Int.one_mul]; omega
theorem dvF_zn (h : 0 ≤ a) : dvF (fun a' v => 0 ≤ a' ∧ (v = 10000 ∨ (-900 ≤ v ∧ v ≤ 900))) (dvZn tp sz a) := by
  unfold dvZn
  have up : ∀ {r}, dvF (fun a' v => 0 ≤ a' ∧ -900 ≤ v ∧ v ≤ 900) r → dvF (fun a' v => 0 ≤ a' ∧ (v = 10000 ∨ (-900 ≤ v ∧ v ≤ 900))) r := fun w => w.elim (fun p => Or.inl ⟨p.1, p.2.1, Or.inr p.2.2⟩) Or.inr
  exact dvF_i (fun _ => Or.inl ⟨rfl, by show 0 ≤ a + 1; omega, Or.inr (by show (-900 : Int) ≤ 0 ∧ (0 : Int) ≤ 900; decide)⟩) (fun _ => dvF_i (fun _ => up (dvF_z1 (Or.inr rfl) (by omega))) (fun _ => dvF_i (fun _ => up (dvF_z1 (Or.inl rfl) (by omega))) (fun _ => Or.inl ⟨rfl, h, Or.inl rfl⟩)))
theorem dvF4_iz (h : 0 ≤ a) (ho : 86400000 * -719162 ≤ one ∧ one < 86400000 * 2932897) : dvF4 (fun a' o t => 0 ≤ a' ∧ (86400000 * -719162 ≤ o ∧ o < 86400000 * 2932897) ∧ (t = 10000 ∨ (-900 ≤ t ∧ t ≤ 900))) (dvIz tp sz one a) := by
  unfold dvIz
  rcases dvF_zn (tp := tp) (sz := sz) h with ⟨e, p⟩ | e
  · rw [if_neg (by omega)]
    exact Or.inl ⟨rfl, p.1, ho, p.2⟩
  · rw [if_pos e]
    exact Or.inr e
theorem dvF4_dt : dvF4 (fun a' o t => 0 ≤ a' ∧ (86400000 * -719162 ≤ o ∧ o < 86400000 * 2932897) ∧ (t = 10000 ∨ (-900 ≤ t ∧ t ≤ 900))) (dvDt tp sz) := by
  unfold dvDt
  exact dvF_b4 (dvF_dy (Int.le_refl 0)) (fun a1 d p => dvF4_iz p.1 (by omega))
theorem dvF_th (h : 0 ≤ a) : dvF (fun a' v => 0 ≤ a' ∧ 0 ≤ v ∧ v < 1000) (dvTh tp sz a) := by
  have B := dvTh_b (tp := tp) (sz := sz) h
  unfold dvTh at B ⊢
  rcases dvF_dg (tp := tp) (sz := sz) (least := 1) (most := 3) h (by decide) with ⟨e, p⟩ | e
  · rw [dvB_k e] at B ⊢
    exact Or.inl ⟨rfl, by show 0 ≤ (dvDg tp sz 1 3 a).2.1; omega, B⟩
  · rw [dvB_f e]; exact Or.inr e
theorem dvF4_in (h : 0 ≤ a) : dvF4 (fun a' o t => 0 ≤ a' ∧ (86400000 * -719162 ≤ o ∧ o < 86400000 * 2932897) ∧ (t = 10000 ∨ (-900 ≤ t ∧ t ≤ 900))) (dvIn tp sz a) := by
  unfold dvIn
  have n3 : dvOf 9999 12 31 = 2932896 := by decide
  refine dvF_b4 (dvF_dy h) (fun a0 day p0 => dvF_b4 (dvF_wr p0.1) (fun fr _ p1 => dvF_b4 (dvF_pr (by omega)) (fun a2 hh p2 => dvF_b4 (dvF_wr (by omega)) (fun a3 _ p3 => dvF_b4 (dvF_pr (by omega)) (fun a4 m p4 => dvF4_i (fun _ => Or.inr (by show 0 ≤ fr; omega)) (fun q1 => dvF_b4 (dvF_wr (by omega)) (fun a5 _ p5 => dvF_b4 (dvF_pr (by omega)) (fun a6 s p6 => dvF4_i (fun _ => Or.inr (by show 0 ≤ fr; omega)) (fun q2 => dvF4_i (fun q3 => dvF4_iz (by omega) ?_) (fun q3 => dvF_b4 (dvF_th (by omega)) (fun a7 f p7 => dvF4_iz p7.1 ?_))))))))))) <;> rw [n3] at q2
  · have s60 : 0 ≤ s ∧ s ≤ 60 := by
      have := p6.2.2
      split at this <;> omega
    have t59 : 0 ≤ (if s = 60 then 59 else s) ∧ (if s = 60 then 59 else s) ≤ 59 ∧ (s = 0 → (if s = 60 then 59 else s) = 0) := by split <;> omega
    generalize (if s = 60 then 59 else s) = t at t59 ⊢
    by_cases h24 : hh = 24
    · have m0 : m = 0 := Classical.not_not.mp (fun w => q1 ⟨h24, w⟩)
      have z : s = 0 ∧ ¬ day = 2932896 := Classical.not_not.mp (fun w => q2 ⟨h24, w⟩)
      have := t59.2.2 z.1
      omega
    · omega
  · have s60 : 0 ≤ s ∧ s ≤ 60 := by
      have := p6.2.2
      split at this <;> omega
    have t59 : 0 ≤ (if s = 60 then 59 else s) ∧ (if s = 60 then 59 else s) ≤ 59 := by split <;> omega
    generalize (if s = 60 then 59 else s) = t at t59 ⊢
    omega
theorem dvSp_r : ∀ (n : Nat) (k a mo mi so : Int), 0 ≤ a → 0 ≤ mo → 0 ≤ mi → 0 ≤ (dvSp tp sz n k a mo mi so).2.1 ∧ (0 ≤ (dvSp tp sz n k a mo mi so).2.2.1 ∧ (dvSp tp sz n k a mo mi so).2.2.1 ≤ mo + 12000000 * n) ∧ 0 ≤ (dvSp tp sz n k a mo mi so).2.2.2.1 ∧ (dvSp tp sz n k a mo mi so).2.2.2.1 ≤ mi + 86400000000000 * n
  | 0, k, a, mo, mi, so, ha, h1, h2 => ⟨ha, ⟨h1, by show mo ≤ mo + 12000000 * ((0 : Nat) : Int); omega⟩, h2, by show mi ≤ mi + 86400000000000 * ((0 : Nat) : Int); omega⟩
  | n + 1, k, a, mo, mi, so, ha, h1, h2 => by
    have zz : ∀ f : Int, 0 ≤ ((f, 0, 0, 0, 0) : Int × Int × Int × Int × Int).2.1 ∧ (0 ≤ ((f, 0, 0, 0, 0) : Int × Int × Int × Int × Int).2.2.1 ∧ ((f, 0, 0, 0, 0) : Int × Int × Int × Int × Int).2.2.1 ≤ mo + 12000000 * ((n + 1 : Nat) : Int)) ∧ 0 ≤ ((f, 0, 0, 0, 0) : Int × Int × Int × Int × Int).2.2.2.1 ∧ ((f, 0, 0, 0, 0) : Int × Int × Int × Int × Int).2.2.2.1 ≤ mi + 86400000000000 * ((n + 1 : Nat) : Int) := fun f => by
      dsimp only
      omega
    rw [dvSp]
    by_cases c : k < 3 ∧ dvD tp sz a
    · rw [pif_t c]
      have V := dvV_6 (tp := tp) (sz := sz) (least := 1) (most := 6) (at_ := a) (Nat.le_refl 6)
      have V0 := (dvDg_b (tp := tp) (sz := sz) (least := 1) (most := 6) (at_ := a) (by decide)).1
      have Da := dvDg_p (tp := tp) (sz := sz) (least := 1) (most := 6) (a := a)
      by_cases c1 : 0 ≤ (dvDg tp sz 1 6 a).1
      · rw [if_pos c1]; exact zz _
      rw [if_neg c1]
      generalize (dvDg tp sz 1 6 a).2.1 = a1 at Da ⊢
      generalize (dvDg tp sz 1 6 a).2.2 = v at V V0 ⊢
      by_cases c2 : 3 ≤ dvAm tp sz 5852484 a1 4 k
      · rw [if_pos c2]; exact zz _
      rw [if_neg c2]
      generalize dvAm tp sz 5852484 a1 4 k = j
      have e1 : 0 ≤ (if j = 0 then 12 * v else if j = 1 then v else 0) ∧ (if j = 0 then 12 * v else if j = 1 then v else 0) ≤ 12000000 := by
        split
        · omega
        · split <;> omega
      have e2 : 0 ≤ (if j = 2 then 86400000 * v else 0) ∧ (if j = 2 then 86400000 * v else 0) ≤ 86400000000000 := by split <;> omega
      generalize (if j = 0 then 12 * v else if j = 1 then v else 0) = g1 at e1 ⊢
      generalize (if j = 2 then 86400000 * v else 0) = g2 at e2 ⊢
      have ih := dvSp_r n (j + 1) (a1 + 1) (mo + g1) (mi + g2) 1 (by omega) (by omega) (by omega)
      omega
    · rw [pif_f c]
      dsimp only
      omega
theorem dvCk_r : ∀ (n : Nat) (k a mi : Int), 0 ≤ a → 0 ≤ mi → 0 ≤ (dvCk tp sz n k a mi).2.1 ∧ 0 ≤ (dvCk tp sz n k a mi).2.2 ∧ (dvCk tp sz n k a mi).2.2 ≤ mi + 3700000000000 * n
  | 0, k, a, mi, ha, h => ⟨ha, h, by show mi ≤ mi + 3700000000000 * ((0 : Nat) : Int); omega⟩
  | n + 1, k, a, mi, ha, h => by
    have zz : ∀ f : Int, 0 ≤ ((f, 0, 0) : Int × Int × Int).2.1 ∧ 0 ≤ ((f, 0, 0) : Int × Int × Int).2.2 ∧ ((f, 0, 0) : Int × Int × Int).2.2 ≤ mi + 3700000000000 * ((n + 1 : Nat) : Int) := fun f => by
      dsimp only
      omega
    rw [dvCk]
    have V := dvV_6 (tp := tp) (sz := sz) (least := 1) (most := 6) (at_ := a) (Nat.le_refl 6)
    have V0 := (dvDg_b (tp := tp) (sz := sz) (least := 1) (most := 6) (at_ := a) (by decide)).1
    have Da := dvDg_p (tp := tp) (sz := sz) (least := 1) (most := 6) (a := a)
    by_cases c1 : 0 ≤ (dvDg tp sz 1 6 a).1
    · rw [if_pos c1]; exact zz _
    rw [if_neg c1]
    generalize (dvDg tp sz 1 6 a).2.1 = a1 at Da ⊢
    generalize (dvDg tp sz 1 6 a).2.2 = v at V V0 ⊢
    have T := dvF_th (tp := tp) (sz := sz) (a := a1 + 1) (by omega)
    have Tb := dvTh_b (tp := tp) (sz := sz) (at_ := a1 + 1) (by omega)
    by_cases c2 : dvH tp sz a1 = 46
    · rw [if_pos c2]
      by_cases c3 : 0 ≤ (dvTh tp sz (a1 + 1)).1
      · rw [if_pos c3]; exact zz _
      · rw [if_neg c3]
        have Ta : 0 ≤ (dvTh tp sz (a1 + 1)).2.1 := T.elim (fun p => p.2.1) (fun w => absurd w c3)
        dsimp only
        omega
    rw [if_neg c2]
    by_cases c3 : 3 ≤ dvAm tp sz 4738387 a1 4 k
    · rw [if_pos c3]; exact zz _
    rw [if_neg c3]
    generalize dvAm tp sz 4738387 a1 4 k = j
    have e1 : 0 ≤ (if j = 0 then 3600000 * v else if j = 1 then 60000 * v else 1000 * v) ∧ (if j = 0 then 3600000 * v else if j = 1 then 60000 * v else 1000 * v) ≤ 3600000000000 := by
      split
      · omega
      · split <;> omega
    generalize (if j = 0 then 3600000 * v else if j = 1 then 60000 * v else 1000 * v) = g1 at e1 ⊢
    by_cases c4 : j + 1 < 3 ∧ dvD tp sz (a1 + 1)
    · rw [pif_t c4]
      have ih := dvCk_r n (j + 1) (a1 + 1) (mi + g1) (by omega) (by omega)
      omega
    · rw [pif_f c4]
      dsimp only
      omega
theorem dvF4_se {neg : Prop} [Decidable neg] {so mo mi : Int} (ha : 0 ≤ a) (h1 : 0 ≤ mo ∧ mo < 1000000000) (h2 : 0 ≤ mi ∧ mi < 1000000000000000) : dvF4 (fun a' o t => 0 ≤ a' ∧ (-1000000000 < o ∧ o < 1000000000) ∧ -1000000000000000 < t ∧ t < 1000000000000000) (dvSe neg so a mo mi) := by
  unfold dvSe
  exact dvF4_i (fun _ => Or.inr ha) (fun _ => dvF4_i (fun _ => Or.inl ⟨rfl, ha, by show -1000000000 < -mo ∧ -mo < 1000000000; omega, by show -1000000000000000 < -mi ∧ -mi < 1000000000000000; omega⟩) (fun _ => Or.inl ⟨rfl, ha, by show -1000000000 < mo ∧ mo < 1000000000; omega, by show -1000000000000000 < mi ∧ mi < 1000000000000000; omega⟩))
theorem dvF4_sn (h : 0 ≤ a) : dvF4 (fun a' o t => 0 ≤ a' ∧ (-1000000000 < o ∧ o < 1000000000) ∧ -1000000000000000 < t ∧ t < 1000000000000000) (dvSn tp sz a) := by
  have key : ∀ (neg : Prop) [Decidable neg] (a : Int), 0 ≤ a → dvF4 (fun a' o t => 0 ≤ a' ∧ (-1000000000 < o ∧ o < 1000000000) ∧ -1000000000000000 < t ∧ t < 1000000000000000) (dvS1 tp sz neg a) := fun neg _ a h => by
    unfold dvS1
    have S := dvSp_r (tp := tp) (sz := sz) 4 0 (a + 1) 0 0 0 (by omega) (Int.le_refl 0) (Int.le_refl 0)
    generalize dvSp tp sz 4 0 (a + 1) 0 0 0 = R at S ⊢
    obtain ⟨s0, s1, s2⟩ := S
    refine dvF4_i (fun _ => Or.inr h) (fun _ => dvF4_i (fun w => Or.inr w) (fun _ => dvF4_i (fun _ => ?_) (fun _ => dvF4_se s0 (by omega) (by omega))))
    have C := dvCk_r (tp := tp) (sz := sz) 4 0 (R.2.1 + 1) R.2.2.2.1 (by omega) s2.1
    generalize dvCk tp sz 4 0 (R.2.1 + 1) R.2.2.2.1 = D at C ⊢
    exact dvF4_i (fun w => Or.inr w) (fun _ => dvF4_se C.1 (by omega) (by omega))
  unfold dvSn
  exact key _ _ (by split <;> omega)
theorem dvF4_nu (h : 0 ≤ a) : dvF4 (fun a' o t => 0 ≤ a' ∧ (-1000000000 < o ∧ o < 1000000000) ∧ 0 < t ∧ t < 1000000000) (dvNu tp sz kind a) := by
  have O := dvOn_b (tp := tp) (sz := sz) (at_ := a)
  have s0 : 0 ≤ dvSg tp sz a := by unfold dvSg; split <;> omega
  unfold dvNu
  generalize dvOn tp sz a = u at O ⊢
  refine dvF_b4 (dvF_dg s0 (by decide)) (fun a1 _ p1 => dvF4_i (fun _ => Or.inr s0) (fun _ => dvF4_i (fun _ => dvF_b4 (dvF_dg (by omega) (by decide)) (fun a2 l p2 => dvF4_i (fun _ => Or.inr (by show 0 ≤ a1 + 1; omega)) (fun l0 => Or.inl ⟨rfl, by show 0 ≤ a2; omega, ?_, ?_⟩))) (fun _ => Or.inl ⟨rfl, by show 0 ≤ a1; omega, O, by show (0 : Int) < 1 ∧ (1 : Int) < 1000000000; decide⟩)))
  · have G := dvGc_b (x := u) (y := l) (by omega)
    have t := dv_tl (x := u) G.1
    show -1000000000 < Int.tdiv u (dvGc u l) ∧ Int.tdiv u (dvGc u l) < 1000000000
    generalize Int.tdiv u (dvGc u l) = w at t ⊢
    omega
  · have G := dvGc_b (x := u) (y := l) (by omega)
    have t := dv_tl (x := l) G.1
    have g1 : 1 ≤ l / dvGc u l := Int.le_ediv_of_mul_le G.1 (by omega)
    show 0 < Int.tdiv l (dvGc u l) ∧ Int.tdiv l (dvGc u l) < 1000000000
    rw [Int.tdiv_eq_ediv_of_nonneg (by omega)] at t ⊢
    generalize l / dvGc u l = w at t g1 ⊢
    omega
theorem dvTr_r : (dvTr tp sz a).2.2 = 0 ∨ (dvTr tp sz a).2.2 = 1 := by
  unfold dvTr
  split
  · exact Or.inr rfl
  split
  · exact Or.inl rfl
  split
  · exact Or.inr rfl
  · exact Or.inl rfl
theorem dvFn_w (ha : 0 ≤ a ∨ 0 ≤ f) (e : (dvFn sz f a one two n row).1 = -1) : ¬ 0 ≤ f ∧ dvFn sz f a one two n row = (-1, one, two, n, row) := by
  unfold dvFn at e ⊢
  by_cases c : 0 ≤ f
  · rw [if_pos c] at e
    have e' : f = -1 := e
    omega
  · rw [if_neg c] at e ⊢
    by_cases c2 : a = sz
    · rw [if_pos c2]; exact ⟨c, rfl⟩
    · rw [if_neg c2] at e
      have e' : a = -1 := e
      omega
theorem dvTr_p (h : 0 ≤ a) : 0 ≤ (dvTr tp sz a).2.1 ∨ 0 ≤ (dvTr tp sz a).1 := by
  have wk : ∀ (j : Nat) (w a : Int), 0 ≤ a → 0 ≤ (dvWk tp sz w j a).2 := fun j => by
    induction j with
    | zero => exact fun w a h => h
    | succ j ih =>
      intro w a h
      rw [dvWk]
      split
      · exact ih w (a + 1) (by omega)
      · exact h
  unfold dvTr
  split
  · exact Or.inl (by show 0 ≤ a + 1; omega)
  split
  · exact Or.inl (by show 0 ≤ a + 1; omega)
  split
  · exact Or.inl (wk _ _ _ h)
  · exact Or.inl (wk _ _ _ h)
/-- what is read well lies in its ranges -/
theorem dvRv_ov (hT : dvT tp) (hk : 0 ≤ kind ∧ kind ≤ 8) (h : (dvRv tp sz kind).1 = -1) : dvOv kind (if kind ≤ 6 then (dvRv tp sz kind).2.1 else (dvRv tp sz kind).2.2.2.1) (if kind = 3 ∨ 6 < kind then 0 else (dvRv tp sz kind).2.2.1) ∧ (6 < kind → dvBy (dvRv tp sz kind).2.2.2.1 (dvRv tp sz kind).2.2.2.2) := by
  have z0 : (0 : Int) ≤ 0 := Int.le_refl 0
  have n1 : dvOf 1 1 1 = -719162 := by decide
  have n2 : dvOf 10000 1 1 = 2932897 := by decide
  unfold dvOv
  rw [n1, n2]
  unfold dvRv at h ⊢
  by_cases k3 : kind = 3
  · rw [if_pos k3] at h ⊢
    rw [(dvFn_w (dvTr_p z0) h).2]
    have t := dvTr_r (tp := tp) (sz := sz) (a := 0)
    rw [if_pos (show kind ≤ 6 by omega), if_pos (Or.inl k3)]
    dsimp only
    exact ⟨⟨hk, by omega, fun _ => ⟨t, rfl⟩, by omega, by omega, by omega⟩, by omega⟩
  rw [if_neg k3] at h ⊢
  by_cases k4 : kind = 4
  · rw [if_pos k4] at h ⊢
    have D := dvF4_dt (tp := tp) (sz := sz)
    have w := dvFn_w (D.elim (fun p => Or.inl p.2.1) Or.inr) h
    rw [w.2]
    have p := D.resolve_right w.1
    rw [if_pos (show kind ≤ 6 by omega), if_neg (show ¬ (kind = 3 ∨ 6 < kind) by omega)]
    dsimp only
    exact ⟨⟨hk, by omega, by omega, fun _ => p.2.2, by omega, by omega⟩, by omega⟩
  rw [if_neg k4] at h ⊢
  by_cases k5 : kind = 5
  · rw [if_pos k5] at h ⊢
    have D := dvF4_in (tp := tp) (sz := sz) z0
    have w := dvFn_w (D.elim (fun p => Or.inl p.2.1) Or.inr) h
    rw [w.2]
    have p := D.resolve_right w.1
    rw [if_pos (show kind ≤ 6 by omega), if_neg (show ¬ (kind = 3 ∨ 6 < kind) by omega)]
    dsimp only
    exact ⟨⟨hk, by omega, by omega, fun _ => p.2.2, by omega, by omega⟩, by omega⟩
  rw [if_neg k5] at h ⊢
  by_cases k6 : kind = 6
  · rw [if_pos k6] at h ⊢
    have D := dvF4_sn (tp := tp) (sz := sz) z0
    have w := dvFn_w (D.elim (fun p => Or.inl p.2.1) Or.inr) h
    rw [w.2]
    have p := D.resolve_right w.1
    rw [if_pos (show kind ≤ 6 by omega), if_neg (show ¬ (kind = 3 ∨ 6 < kind) by omega)]
    dsimp only
    exact ⟨⟨hk, by omega, by omega, by omega, fun _ => p.2.2, by omega⟩, by omega⟩
  rw [if_neg k6] at h ⊢
  by_cases k7 : kind = 7
  · rw [if_pos k7] at h ⊢
    have A := dvA_hx (tp := tp) (sz := sz) 33 0 0 (fun _ => 0) 66 (by decide) (by decide)
    have B := dvBy_hx (tp := tp) (sz := sz) hT 33 0 0 (fun _ => 0) (by decide) (dvBy_0 (a := 0)).2
    rw [(dvFn_w (Or.inl A.1) h).2]
    rw [if_neg (show ¬ kind ≤ 6 by omega), if_pos (show kind = 3 ∨ 6 < kind by omega)]
    dsimp only
    exact ⟨⟨hk, by omega, by omega, by omega, by omega, fun _ => ⟨B.1, rfl⟩⟩, fun _ => B.2⟩
  rw [if_neg k7] at h ⊢
  by_cases k8 : kind = 8
  · rw [if_pos k8] at h ⊢
    have A := dvA_bs (tp := tp) (sz := sz) 17 0 0 (fun _ => 0) 68 (by decide) (by decide)
    have B := dvBy_bs (tp := tp) (sz := sz) 17 0 0 (fun _ => 0) (by decide) (dvBy_0 (a := 0)).2
    rw [(dvFn_w (Or.inl A.1) h).2]
    rw [if_neg (show ¬ kind ≤ 6 by omega), if_pos (show kind = 3 ∨ 6 < kind by omega)]
    dsimp only
    exact ⟨⟨hk, by omega, by omega, by omega, by omega, fun _ => ⟨B.1, rfl⟩⟩, fun _ => B.2⟩
  rw [if_neg k8] at h ⊢
  have D := dvF4_nu (tp := tp) (sz := sz) (kind := kind) z0
  have w := dvFn_w (D.elim (fun p => Or.inl p.2.1) Or.inr) h
  rw [w.2]
  have p := D.resolve_right w.1
  rw [if_pos (show kind ≤ 6 by omega), if_neg (show ¬ (kind = 3 ∨ 6 < kind) by omega)]
  dsimp only
  exact ⟨⟨hk, fun _ => p.2.2, by omega, by omega, by omega, by omega⟩, by omega⟩
theorem dvVs_put {c : Int} {kd on tw bt bt' : Int → Int} (V : dvVs c kd on tw bt) (hc : c < 200) (O : dvOv kind one two) (b0 : ∀ i, i < 20 * c → bt' i = bt i) (b1 : 6 < kind → ∀ i, 0 ≤ i → i < one → 0 ≤ bt' (20 * c + i) ∧ bt' (20 * c + i) < 256) : dvVs (c + 1) (updI kd c kind) (updI on c one) (updI tw c two) bt' := by
  refine ⟨by have := V.1; omega, fun v v0 v1 => ?_⟩
  by_cases e : v = c
  · rw [e, updI_s, updI_s, updI_s]
    exact ⟨O, fun k6 k k0 k1 => b1 k6 k k0 k1⟩
  · have Vv := V.2 v v0 (by omega)
    rw [updI_n e, updI_n e, updI_n e]
    refine ⟨Vv.1, fun k6 k k0 k1 => ?_⟩
    have Vo := Vv.1.2.2.2.2.2 k6
    rw [b0 _ (by omega)]
    exact Vv.2 k6 k k0 k1
theorem dvVs_read {c : Int} {kd on tw bt : Int → Int} (hT : dvT tp) (hk : 0 ≤ kind ∧ kind ≤ 8) (h : (dvRv tp sz kind).1 = -1) (V : dvVs c kd on tw bt) (hc : c < 200) : dvVs (c + 1) (updI kd c kind) (updI on c (if kind ≤ 6 then (dvRv tp sz kind).2.1 else (dvRv tp sz kind).2.2.2.1)) (updI tw c (if kind = 3 ∨ 6 < kind then 0 else (dvRv tp sz kind).2.2.1)) (dvBu bt c (dvRv tp sz kind).2.2.2.1 (dvRv tp sz kind).2.2.2.2) := by
  have O := dvRv_ov hT hk h
  refine dvVs_put V hc O.1 (fun i hi => ?_) (fun k6 i i0 i1 => ?_)
  · unfold dvBu; rw [if_neg (by omega)]
  · rw [if_neg (by omega)] at i1
    unfold dvBu
    rw [if_pos (by omega), show 20 * c + i - 20 * c = i by omega]
    exact O.2 k6 i i0 i1
theorem dvKf_r {u l : Int} (hl : 0 < l) (h : 0 ≤ (dvKf u l).1) : dvOv (dvKf u l).2.1 (dvKf u l).2.2.1 (dvKf u l).2.2.2 ∧ (dvKf u l).2.1 ≤ 6 := by
  have G := dvGc_b (x := u) hl
  have g1 : 1 ≤ l / dvGc u l := Int.le_ediv_of_mul_le G.1 (by omega)
  unfold dvKf at h ⊢
  by_cases c : -1000000000 < Int.tdiv u (dvGc u l) ∧ Int.tdiv u (dvGc u l) < 1000000000 ∧ Int.tdiv l (dvGc u l) < 1000000000
  · rw [if_pos c]
    rw [Int.tdiv_eq_ediv_of_nonneg (a := l) (by omega)] at c ⊢
    refine ⟨?_, by show (2 : Int) ≤ 6; decide⟩
    show dvOv 2 (Int.tdiv u (dvGc u l)) (l / dvGc u l)
    exact ⟨by decide, fun _ => ⟨⟨c.1, c.2.1⟩, by omega, c.2.2⟩, fun w => absurd w (by decide), fun w => absurd w (by decide), fun w => absurd w (by decide), fun w => absurd w (by decide)⟩
  · rw [if_neg c] at h; exact absurd h (by decide)
theorem dvKs_r {mo mi : Int} (h : 0 ≤ (dvKs mo mi).1) : dvOv (dvKs mo mi).2.1 (dvKs mo mi).2.2.1 (dvKs mo mi).2.2.2 ∧ (dvKs mo mi).2.1 ≤ 6 := by
  unfold dvKs at h ⊢
  by_cases c : (-1000000000 < mo ∧ mo < 1000000000) ∧ -1000000000000000 < mi ∧ mi < 1000000000000000
  · rw [if_pos c]
    refine ⟨?_, by show (6 : Int) ≤ 6; decide⟩
    show dvOv 6 mo mi
    exact ⟨by decide, fun w => absurd w (by decide), fun w => absurd w (by decide), fun w => absurd w (by decide), fun _ => c, fun w => absurd w (by decide)⟩
  · rw [if_neg c] at h; exact absurd h (by decide)
/-- what is reckoned lies in its ranges -/
theorem dvAp_r {c op a b : Int} {kd on tw bt : Int → Int} (V : dvVs c kd on tw bt) (h : 0 ≤ (dvAp kd on tw c op a b).1) : dvOv (dvAp kd on tw c op a b).2.1 (dvAp kd on tw c op a b).2.2.1 (dvAp kd on tw c op a b).2.2.2 ∧ (dvAp kd on tw c op a b).2.1 ≤ 6 := by
  have no : ∀ {P : Prop}, 0 ≤ dvNo.1 → P := fun w => absurd w (by decide)
  unfold dvAp at h ⊢
  by_cases c0 : (op < 0 ∨ 7 < op ∨ ¬ (0 ≤ a ∧ a < c)) ∨ ¬ op = 7 ∧ ¬ (0 ≤ b ∧ b < c)
  · rw [if_pos c0] at h
    have h' : (0 : Int) ≤ -1 := h
    exact absurd h' (by decide)
  rw [if_neg c0] at h ⊢
  have va : 0 ≤ a ∧ a < c := by omega
  have Va := (V.2 a va.1 va.2).1
  by_cases c1 : op < 4
  · rw [if_pos c1] at h ⊢
    have vb : 0 ≤ b ∧ b < c := by omega
    have Vb := (V.2 b vb.1 vb.2).1
    by_cases k : kd a ≤ 2 ∧ kd b ≤ 2
    · rw [if_pos k] at h ⊢
      have A := Va.2.1 k.1
      have B := Vb.2.1 k.2
      have m1 := Int.mul_pos A.2.1 B.2.1
      unfold dvRk at h ⊢
      by_cases o0 : op = 0
      · rw [if_pos o0] at h ⊢; exact dvKf_r m1 h
      rw [if_neg o0] at h ⊢
      by_cases o1 : op = 1
      · rw [if_pos o1] at h ⊢; exact dvKf_r m1 h
      rw [if_neg o1] at h ⊢
      by_cases o2 : op = 2
      · rw [if_pos o2] at h ⊢; exact dvKf_r m1 h
      rw [if_neg o2] at h ⊢
      by_cases z : on b = 0
      · rw [if_pos z] at h; exact no h
      rw [if_neg z] at h ⊢
      by_cases n : on b < 0
      · rw [if_pos n] at h ⊢
        exact dvKf_r (Int.mul_pos (by omega) A.2.1) h
      · rw [if_neg n] at h ⊢
        exact dvKf_r (Int.mul_pos (by omega) A.2.1) h
    · rw [if_neg k] at h; exact no h
  rw [if_neg c1] at h ⊢
  by_cases c7 : op = 7
  · rw [if_pos c7] at h ⊢
    by_cases k : kd a = 6
    · rw [if_pos k] at h ⊢; exact dvKs_r h
    · rw [if_neg k] at h; exact no h
  rw [if_neg c7] at h ⊢
  by_cases c4 : op = 4
  · rw [if_pos c4] at h ⊢
    by_cases k : (kd a = 4 ∨ kd a = 5) ∧ kd b = 6
    · rw [if_pos k] at h ⊢
      have A := Va.2.2.2.1 k.1
      unfold dvAd at h ⊢
      generalize dvLt (on a) (on b) (if kd a = 4 then 86400000 * (tw b / 86400000) else tw b) = t at h ⊢
      by_cases c : 86400000 * dvOf 1 1 1 ≤ t ∧ t < 86400000 * dvOf 10000 1 1
      · rw [if_pos c]
        exact ⟨⟨Va.1, fun w => by have w' : kd a ≤ 2 := w; omega, fun w => by have w' : kd a = 3 := w; omega, fun _ => ⟨c, A.2⟩, fun w => by have w' : kd a = 6 := w; omega, fun w => by have w' : 6 < kd a := w; omega⟩, by show kd a ≤ 6; omega⟩
      · rw [if_neg c] at h; exact no h
    · rw [if_neg k] at h; exact no h
  rw [if_neg c4] at h ⊢
  by_cases c6 : op = 6
  · rw [if_pos c6] at h ⊢
    by_cases k : kd a = 6 ∧ kd b = 6
    · rw [if_pos k] at h ⊢; exact dvKs_r h
    · rw [if_neg k] at h; exact no h
  rw [if_neg c6] at h ⊢
  by_cases k : (kd a = 5 ∧ kd b = 5) ∧ ((tw a = 10000) ↔ (tw b = 10000))
  · rw [if_pos k] at h ⊢; exact dvKs_r h
  · rw [if_neg k] at h; exact no h
theorem dvVs_apply {c op a b : Int} {kd on tw bt : Int → Int} (V : dvVs c kd on tw bt) (hc : c < 200) (h : 0 ≤ (dvAp kd on tw c op a b).1) : dvVs (c + 1) (updI kd c (dvAp kd on tw c op a b).2.1) (updI on c (dvAp kd on tw c op a b).2.2.1) (updI tw c (dvAp kd on tw c op a b).2.2.2) bt := by
  have O := dvAp_r V h
  exact dvVs_put V hc O.1 (fun _ _ => rfl) (fun k6 => by have := O.2; omega)
end
