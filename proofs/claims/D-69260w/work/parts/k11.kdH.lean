/-! KnowDisk, the component: poke, wrong, backup, drop, full -/
theorem zb_256 {x : Int} {k : Nat} (h : 0 ≤ x ∧ x < 256) (hk : 8 ≤ k) : zb x k = 0 := by
  unfold zb
  have hp : (256 : Int) ≤ 2 ^ k := by
    rw [show k = 8 + (k - 8) by omega, Int.pow_add]
    have : (0 : Int) < 2 ^ (k - 8) := Int.pow_pos (by decide)
    have e : (2 : Int) ^ 8 = 256 := by decide
    rw [e]; omega
  rw [Int.ediv_eq_zero_of_lt h.1 (by omega)]; rfl
theorem kd_xor {a m u : Int} (ha : -128 ≤ a ∧ a < 128) (hu : a % 256 = u) (hm : 0 ≤ m ∧ m < 256) : zxor a (w8 m) % 256 = zxor u m := by
  have w := kd_w8 (x := m)
  have hm2 : w8 m % 256 = m := by rw [w.2]; omega
  have x1 := zr_xor32 a (w8 m)
  have x2 := zr_xor32 u m
  refine zb_ext32 (by omega) x2 (fun k hk => ?_)
  have l8 : ∀ (y : Int) (k : Nat), k < 8 → zb (y % 256) k = zb y k := fun y k h => zb_m (x := y) (k := k) (w := 8) h
  rw [zb_xor32 (by omega) (by omega) hk]
  by_cases h8 : k < 8
  · rw [l8 _ k h8, zb_xor32 (by omega) (by omega) hk, ← hu, l8 _ k h8]
    have : zb (w8 m) k = zb m k := by rw [← l8 _ k h8, hm2]
    rw [this]
  · rw [zb_256 (by omega) (by omega), zb_256 (x := u) (by omega) (by omega), zb_256 (x := m) hm (by omega)]
    decide
noncomputable def kdPk (S : KS) (p i mask : Int) : Int × KS :=
  if S.ru = 0 then (-3, S) else pif (kdIp S.pl p)
    (if (i < 0 ∨ 32 ≤ i) ∨ mask < 1 ∨ 255 < mask then (-2, S) else
      pif (¬ S.ld (S.pl p) = 0 ∨ kdWt S.tg S.fi S.be (S.pl p)) (-3, S)
        (zxor (S.dk (32 * S.pl p + i)) mask, (KS.mk (updI S.dk (32 * S.pl p + i) (zxor (S.dk (32 * S.pl p + i)) mask)) (updI S.lt (32 * S.pl p + i) (zxor (S.dk (32 * S.pl p + i)) mask)) (S.op) (S.ld) (S.pl) (S.nu) (S.se) (S.ku) (S.ks) (S.tg) (S.by') (S.ru) (S.fu) (S.ch) (S.fi) (S.be) (S.ol) (S.nw) (S.kn) (S.mo))))
    (-1, S)
noncomputable def kdBk (S : KS) (v : Int) : Int × KS :=
  if S.ru = 0 then (-3, S) else if ¬ S.nu S.nw = v then (-1, S) else if S.kn = 4 then (-4, S) else
  (kdBc (S.se S.nw), (KS.mk (S.dk) (S.lt) (S.op) (S.ld) (S.pl) (S.nu) (S.se) (updI S.ku S.kn v) (updI S.ks S.kn (S.se S.nw)) (S.tg) (S.by') (S.ru) (S.fu) (S.ch) (S.fi) (S.be) (S.ol) (S.nw) (S.kn + 1) (S.mo + 1)))
noncomputable def kdDp (S : KS) (v : Int) : Int × KS :=
  if S.ru = 0 then (-3, S) else if kdKf S.ku S.kn v = S.kn then (-1, S) else
  (kdHc S.pl S.tg S.fi S.be S.se S.ol S.nw S.ks S.kn - kdHc S.pl S.tg S.fi S.be S.se S.ol S.nw (kdLo S.ks (kdKf S.ku S.kn v) (S.kn - 1)) (S.kn - 1),
   (KS.mk (S.dk) (S.lt) (S.op) (S.ld) (S.pl) (S.nu) (S.se) (kdLo S.ku (kdKf S.ku S.kn v) (S.kn - 1)) (kdLo S.ks (kdKf S.ku S.kn v) (S.kn - 1)) (S.tg) (S.by') (S.ru) (S.fu) (S.ch) (S.fi) (S.be) (S.ol) (S.nw) (S.kn - 1) (S.mo + 1)))
theorem cntI_sub {p q : Int → Prop} (h : ∀ i, q i → p i) : ∀ n : Nat, cntI (fun i => p i ∧ ¬ q i) n = cntI p n - cntI q n
  | 0 => by unfold cntI; rfl
  | n + 1 => by
    have ih := cntI_sub h n
    have e : ∀ r : Int → Prop, cntI r (n + 1) = cntI r ((n : Int) + 1).toNat ∧ cntI r n = cntI r (n : Int).toNat := fun r => ⟨by rw [show ((n : Int) + 1).toNat = n + 1 by omega], by rw [Int.toNat_natCast]⟩
    rw [(e _).1, (e p).1, (e q).1]
    rw [(e _).2, (e p).2, (e q).2] at ih
    by_cases hp : p n
    · by_cases hq : q n
      · rw [cntI_f (by omega) (fun z => z.2 hq), cntI_t (by omega) hp, cntI_t (by omega) hq]; omega
      · rw [cntI_t (p := fun i => p i ∧ ¬ q i) (by omega) ⟨hp, hq⟩, cntI_t (by omega) hp, cntI_f (by omega) hq]; omega
    · rw [cntI_f (by omega) (fun z => hp z.1), cntI_f (by omega) hp, cntI_f (by omega) (fun z => hp (h _ z))]; omega
section
variable {kd : Nat → Nat} {an : Nat → Nat} {ai : Nat → Int → Int} {al : Nat → Int → Int} {ar : Nat → Int → Option Nat} {mX42_disk : Nat → Option Nat} {mX42_count : Nat → Int} {mX42_runs : Nat → Int} {mX42_isFull : Nat → Int} {mX42_places : Nat → Option Nat} {mX42_laid : Nat → Option Nat} {mX42_changed : Nat → Int} {mX42_waiting : Nat → Option Nat} {mX42_states : Nat → Option Nat} {mX42_kept : Nat → Option Nat} {mX43_number : Nat → Int} {mX43_sectors : Nat → Int} {mX63_bytes : Nat → Option Nat} {mX64_to : Nat → Int} {mX64_sector : Nat → Option Nat} {mJ1_modCount : Nat → Int} {mJ2_elementData : Nat → Option Nat} {mJ2_size : Nat → Int} {mJ5_elements : Nat → Option Nat} {mJ5_head : Nat → Int} {mJ5_tail : Nat → Int} {mJ22_cursor : Nat → Int} {mJ22_remaining : Nat → Int} {mJ22_lastRet : Nat → Int} {mJ22_this_0 : Nat → Option Nat} {mJ23_cursor : Nat → Int} {mJ23_lastRet : Nat → Int} {mJ23_expectedModCount : Nat → Int} {mJ23_this_0 : Nat → Option Nat} {sa : Nat → Nat} {d e q x l dq pq lq d1 e1 d2 e2 e3 s b : Nat} {cap hd n i c1 h1 c2 h2 : Int} {el f ls lb ws wb w1 w2 w3 w : Int → Nat} {MC MS kc ks' : Nat} {A B : Prop} {dk op lt ld pl tg by' nu se ku ks : Int → Int} {fi be ol nw kn k p v ru fu ch lo : Int} {fn : Int → Int} {P : Nat → Prop} {kd' an' : Nat → Nat} {ai' : Nat → Int → Int} {ar' : Nat → Int → Option Nat} {mB' mS' mE' : Nat → Option Nat} {mO' mN' mU' mH' mT' : Nat → Int} {S : KS} {a to fr nr nn ss keep tear mask what : Int} {src op' ld' : Int → Int} {e' sp wq : Nat} {Q Qr Qd : Nat → Prop}
theorem CKD_bits {post : Int → Prop} (hp : post (cntI (fun i => zb v i.toNat = 1) 64)) : wpKD_J21_bitCount post v := by
  unfold wpKD_J21_bitCount
  exact zpop64 (P := post) hp
theorem CKD_full {post : Int → (Nat → Int) → Prop} (h0 : v = 0 ∨ v = 1) (hf : S.fu = 0 ∨ S.fu = 1) (O : kdOK kd an ai al ar mX42_disk mX42_count mX42_runs mX42_isFull mX42_places mX42_laid mX42_changed mX42_waiting mX42_states mX42_kept mX43_number mX43_sectors mX63_bytes mX64_to mX64_sector mJ1_modCount mJ2_elementData mJ2_size mJ5_elements mJ5_head mJ5_tail mJ22_cursor mJ22_remaining mJ22_lastRet mJ22_this_0 mJ23_cursor mJ23_lastRet mJ23_expectedModCount mJ23_this_0 sa x S) (H : ∀ F', kdOK kd an ai al ar mX42_disk mX42_count mX42_runs (F') mX42_places mX42_laid mX42_changed mX42_waiting mX42_states mX42_kept mX43_number mX43_sectors mX63_bytes mX64_to mX64_sector mJ1_modCount mJ2_elementData mJ2_size mJ5_elements mJ5_head mJ5_tail mJ22_cursor mJ22_remaining mJ22_lastRet mJ22_this_0 mJ23_cursor mJ23_lastRet mJ23_expectedModCount mJ23_this_0 sa x (KS.mk (S.dk) (S.lt) (S.op) (S.ld) (S.pl) (S.nu) (S.se) (S.ku) (S.ks) (S.tg) (S.by') (S.ru) (v) (S.ch) (S.fi) (S.be) (S.ol) (S.nw) (S.kn) (S.mo)) → post S.fu F') : wpKD_X42_full post mX42_isFull x v := by
  obtain ⟨Rg, Lt, dq, pq, lq, ls, lb, d1, e1, c1, h1, w1, ws, wb, d2, e2, c2, h2, w2, l, e3, w3, C1, C2, C3, C4, C5, C6, C7, D1, D2, Mo⟩ := O
  unfold wpKD_X42_full
  intro y ey
  rw [C1.2.1.2.2.1] at ey
  rw [ey]
  exact ⟨h0, fun F eF => ⟨hf, by rw [eF]; exact H _ ⟨Rg, Lt, dq, pq, lq, ls, lb, d1, e1, c1, h1, w1, ws, wb, d2, e2, c2, h2, w2, l, e3, w3, ⟨C1.1, ⟨C1.2.1.1, C1.2.1.2.1, va_up_self _ _ _, C1.2.1.2.2.2⟩, C1.2.2⟩, C2, C3, C4, C5, C6, C7, D1, D2, Mo⟩⟩⟩
theorem CKD_isWaiting {post : Int → (Nat → Nat) → (Nat → Int) → (Nat → Int) → (Nat → Int) → (Nat → Option Nat) → (Nat → Int) → (Nat → Int) → Prop} (hM : 1 ≤ MC ∧ 4 ≤ MS) (C4 : kdC4 kd an ai ar mX42_waiting mX64_to mX64_sector mX63_bytes mJ5_elements mJ5_head mJ5_tail x d1 e1 c1 h1 w1 ws wb fi be tg by') (h1' : ∀ kd' J1 J2 J3 J4 J5 J6, kdK4 kd an ai mX63_bytes kd' an ai mX63_bytes → kdWt tg fi be k → post 1 kd' J1 J2 J3 J4 J5 J6) (h0' : ∀ kd' J1 J2 J3 J4 J5 J6, kdK4 kd an ai mX63_bytes kd' an ai mX63_bytes → ¬ kdWt tg fi be k → post 0 kd' J1 J2 J3 J4 J5 J6) : wpKD_X42_isWaiting MC MS post kd an ar mX42_waiting mX64_to mJ1_modCount mJ2_elementData mJ2_size mJ5_elements mJ5_head mJ5_tail mJ22_cursor mJ22_remaining mJ22_lastRet mJ22_this_0 mJ23_cursor mJ23_lastRet mJ23_expectedModCount mJ23_this_0 x k := by
  unfold wpKD_X42_isWaiting
  have n0 := C4.2.1.2.2.1.2.1
  refine kOn_of C4.1 ⟨C4.2.1.1.1, 1, 4, by omega, CKD_diter (by decide) C4.2.1 (fun q hq _ => ?_)⟩
  have K1 : kdK4 kd an ai mX63_bytes (va_up kd q 7) an ai mX63_bytes := kdK4.it hq
  refine ⟨(be - fi).toNat + 1, CKD_w8 (by omega) (va_up_self _ _ _) (C4.kp K1) (va_up_self _ _ _) (fun C R L w => ⟨by omega, by omega, h1' _ _ _ _ _ _ _ K1 w⟩) (fun C R L w => ⟨by omega, by omega, h0' _ _ _ _ _ _ _ K1 w⟩) _ 0 _ _ _ (by omega) (Int.le_refl 0) (fun s s0 s1 => by omega) ?_ ?_⟩
  · rw [va_up_self, dqI_0 C4.2.1.2.1.2]
  · rw [va_up_self]; omega
theorem CKD_poke {post : Int → (Nat → Nat) → (Nat → Int → Int) → (Nat → Int) → (Nat → Int) → (Nat → Int) → (Nat → Option Nat) → (Nat → Int) → (Nat → Int) → Prop} (hM : 1 ≤ MC ∧ 4 ≤ MS) (O : kdOK kd an ai al ar mX42_disk mX42_count mX42_runs mX42_isFull mX42_places mX42_laid mX42_changed mX42_waiting mX42_states mX42_kept mX43_number mX43_sectors mX63_bytes mX64_to mX64_sector mJ1_modCount mJ2_elementData mJ2_size mJ5_elements mJ5_head mJ5_tail mJ22_cursor mJ22_remaining mJ22_lastRet mJ22_this_0 mJ23_cursor mJ23_lastRet mJ23_expectedModCount mJ23_this_0 sa x S) (H : ∀ kd' ai' J1 J2 J3 J4 J5 J6, kdOK (kd') an (ai') al ar mX42_disk mX42_count mX42_runs mX42_isFull mX42_places mX42_laid mX42_changed mX42_waiting mX42_states mX42_kept mX43_number mX43_sectors mX63_bytes mX64_to mX64_sector mJ1_modCount mJ2_elementData mJ2_size mJ5_elements mJ5_head mJ5_tail J1 J2 J3 J4 J5 J6 mJ23_expectedModCount mJ23_this_0 sa x (kdPk S p i mask).2 → post (kdPk S p i mask).1 kd' ai' J1 J2 J3 J4 J5 J6) : wpKD_X42_poke MC MS post kd an ai ar mX42_disk mX42_runs mX42_places mX42_laid mX42_waiting mX64_to mJ1_modCount mJ2_elementData mJ2_size mJ5_elements mJ5_head mJ5_tail mJ22_cursor mJ22_remaining mJ22_lastRet mJ22_this_0 mJ23_cursor mJ23_lastRet mJ23_expectedModCount mJ23_this_0 x p i mask := by
  have O0 := O
  obtain ⟨Rg, Lt, dq, pq, lq, ls, lb, d1, e1, c1, h1, w1, ws, wb, d2, e2, c2, h2, w2, l, e3, w3, C1, C2, C3, C4, C5, C6, C7, D1, D2, Mo⟩ := O
  unfold kdPk at H
  unfold wpKD_X42_poke
  rw [C1.2.1.2.1]
  refine ⟨fun r0 => ⟨by omega, by omega, ?_⟩, fun r0 => ⟨by omega, CKD_isPageB C1 C2 (fun ip => ?_) (fun np => ⟨by omega, by omega, ?_⟩)⟩⟩
  · rw [if_pos r0] at H
    exact H _ _ _ _ _ _ _ _ O0
  rotate_left
  · rw [if_neg r0, pif_f np] at H
    exact H _ _ _ _ _ _ _ _ O0
  rw [if_neg r0, pif_t ip] at H
  have q := Rg.1 p ip.1.1 ip.1.2
  have ne := ip.2
  have ip1 := ip.1
  have no2 : ((i < 0 ∨ 32 ≤ i) ∨ mask < 1 ∨ 255 < mask) → post (-2) kd ai mJ22_cursor mJ22_remaining mJ22_lastRet mJ22_this_0 mJ23_cursor mJ23_lastRet := fun w => by
    rw [if_pos w] at H
    exact H _ _ _ _ _ _ _ _ O0
  refine ⟨fun w => ⟨by omega, by omega, no2 (by omega)⟩, fun a1 => ⟨fun w => ⟨by omega, by omega, no2 (by omega)⟩, fun a2 => ⟨fun w => ⟨by omega, by omega, no2 (by omega)⟩, fun a3 => ⟨fun a4 => ?_, fun w => ⟨by omega, by omega, no2 (by omega)⟩⟩⟩⟩⟩
  rw [if_neg (by omega)] at H
  refine kOn_of C2.1.1 ⟨C2.1.2.1, by rw [C2.1.2.2]; exact ip1, fun k ek => ?_⟩
  rw [C2.2 p ip1.1 ip1.2] at ek
  rw [← ek] at H q ne
  clear ek
  refine kOn_of C3.1.1 ⟨C3.1.2.1, by rw [C3.1.2.2]; omega, fun r er => ?_⟩
  have e0 := C3.2.1 k (by omega) (by omega)
  refine ⟨fun rn => ?_, fun y ry => ⟨by omega, by omega, ?_⟩⟩
  rotate_left
  · have lk : ¬ S.ld k = 0 := fun z => by
      rw [if_pos z] at e0
      rw [er, e0] at ry; exact (nomatch ry)
    rw [pif_t (Or.inl lk)] at H
    exact H _ _ _ _ _ _ _ _ O0
  have lk : S.ld k = 0 := Classical.byContradiction fun z => by
    rw [if_neg z] at e0
    rw [er, e0] at rn; exact (nomatch rn)
  refine ⟨1, 4, by omega, CKD_isWaiting (by decide) C4 (fun kd' J1 J2 J3 J4 J5 J6 K wt _ => ⟨fun z => absurd z (by decide), fun _ => ⟨by omega, by omega, ?_⟩⟩) (fun kd' J1 J2 J3 J4 J5 J6 K nw' _ => ⟨fun _ => ?_, fun z => absurd rfl z⟩)⟩
  · rw [pif_t (Or.inr wt)] at H
    exact H _ _ _ _ _ _ _ _ (O0.kp K)
  rw [pif_f (fun w => w.elim (fun z => z lk) nw')] at H
  have C1' := C1.kp K
  have d0 := C1.2.2 (32 * k + i) (by omega) (by omega)
  refine kOn_of C1.1.2.1 ⟨C1'.1.2.2.1, by rw [C1'.1.2.2.2]; omega, by omega, fun v ev => ⟨by rw [ev]; exact kd_w8.1, fun ai2 ea => ⟨by omega, by omega, ?_⟩⟩⟩
  have ex : v % 256 = zxor (S.dk (32 * k + i)) mask := by
    rw [ev, kd_w8.2]
    exact kd_xor d0.1 d0.2 (by omega)
  rw [ea, va_up_self, updI_s, ex]
  have hv : -128 ≤ v ∧ v < 128 := by rw [ev]; exact kd_w8.1
  generalize zxor (S.dk (32 * k + i)) mask = X at H ex ⊢
  refine H kd' _ J1 J2 J3 J4 J5 J6 ?_
  have kdq := C1'.1.2.2.1
  have K2 : kdKx (fun r => r = dq) (fun _ => False) (fun _ => False) kd an ai ar mX63_bytes mX64_to mX64_sector mX43_number mX43_sectors mJ5_elements mJ5_head mJ5_tail kd' an (va_up ai dq (updI (ai dq) (32 * k + i) v)) ar mX63_bytes mX64_to mX64_sector mX43_number mX43_sectors mJ5_elements mJ5_head mJ5_tail := fun r hr => by
    obtain ⟨k1, k2, k3, k4⟩ := K r hr
    exact ⟨⟨k1, k2, k4⟩, ⟨rfl, rfl⟩, ⟨rfl, rfl⟩, fun z => va_up_ne _ _ z, fun _ => rfl, fun _ => ⟨rfl, rfl, rfl⟩⟩
  have kpq := C2.1.2.1
  have kdq0 := C1.1.2.2.1
  refine ⟨Rg, ⟨fun w w0 w1' no j j0 j1 => ?_, fun k' k0 k1 nk j j0 j1 => ?_⟩, dq, pq, lq, ls, lb, d1, e1, c1, h1, w1, ws, wb, d2, e2, c2, h2, w2, l, e3, w3, ⟨C1'.1, C1.2.1, fun i' i0 i1 => ?_⟩, C2.kx K2 (fun z => ?_), C3.kx K2 id (fun k' k0 k1 kl z => (C7.1.2 k' k0 k1 kl).1 z), C4.kx K2 id id (fun i' i0 i1 z => C7.2 i' i0 i1 z), C5.kx K2 id id, C6.kx K2 (fun _ => id), C7, D1.le K2.le C6.2.1.own C4.2.1.1.2.2.1, D2.le K2.le C6.2.1.own C5.2.1.1.2.2.1, Mo⟩
  · have nt : ¬ S.tg w = k := fun z => nw' ⟨w, ⟨w0, w1'⟩, z⟩
    show updI S.lt (32 * k + i) X (32 * S.tg w + j) = S.by' (32 * w + j)
    rw [updI_n (by omega)]
    exact Lt.1 w w0 w1' no j j0 j1
  · show updI S.lt (32 * k + i) X (32 * k' + j) = updI S.dk (32 * k + i) X (32 * k' + j)
    rw [updI_e, updI_e, Lt.2 k' k0 k1 nk j j0 j1]
  · rw [va_up_self]
    show (-128 ≤ updI (ai dq) (32 * k + i) v i' ∧ updI (ai dq) (32 * k + i) v i' < 128) ∧ updI (ai dq) (32 * k + i) v i' % 256 = updI S.dk (32 * k + i) X i'
    by_cases z : i' = 32 * k + i
    · rw [z, updI_s, updI_s]; exact ⟨hv, ex⟩
    · rw [updI_n z, updI_n z]; exact C1.2.2 i' i0 i1
  · rw [z] at kpq; omega
theorem CKD_w30 {K : Int → Int → (Nat → Nat) → (Nat → Nat) → (Nat → Int → Int) → (Nat → Option Nat) → (Nat → Int) → (Nat → Int) → (Nat → Int) → (Nat → Option Nat) → (Nat → Int) → (Nat → Int) → Nat → Nat → Prop} (hM : kc + 90 ≤ MC ∧ ks' + 1110 ≤ MS)
  (hK : ∀ (kd an : Nat → Nat) (ai : Nat → Int → Int) (mX63_bytes : Nat → Option Nat) (mJ22_cursor mJ22_remaining mJ22_lastRet : Nat → Int) (mJ22_this_0 : Nat → Option Nat) (mJ23_cursor mJ23_lastRet : Nat → Int) (kc2 ks2 : Nat), kdOK kd an ai al ar mX42_disk mX42_count mX42_runs mX42_isFull mX42_places mX42_laid mX42_changed mX42_waiting mX42_states mX42_kept mX43_number mX43_sectors mX63_bytes mX64_to mX64_sector mJ1_modCount mJ2_elementData mJ2_size mJ5_elements mJ5_head mJ5_tail mJ22_cursor mJ22_remaining mJ22_lastRet mJ22_this_0 mJ23_cursor mJ23_lastRet mJ23_expectedModCount mJ23_this_0 sa x S → kc2 ≤ kc + 90 → ks2 ≤ ks' + 1110 → K (cntI (kdWg S.lt S.ld S.pl) 30) (kdWl S.lt S.ld S.pl) kd an ai mX63_bytes mJ22_cursor mJ22_remaining mJ22_lastRet mJ22_this_0 mJ23_cursor mJ23_lastRet kc2 ks2) :
  ∀ (m : Nat) (c f : Int) (kd an : Nat → Nat) (ai : Nat → Int → Int) (mX63_bytes : Nat → Option Nat) (mJ22_cursor mJ22_remaining mJ22_lastRet : Nat → Int) (mJ22_this_0 : Nat → Option Nat) (mJ23_cursor mJ23_lastRet : Nat → Int) (kc2 ks2 : Nat), m ≤ 30 → kdOK kd an ai al ar mX42_disk mX42_count mX42_runs mX42_isFull mX42_places mX42_laid mX42_changed mX42_waiting mX42_states mX42_kept mX43_number mX43_sectors mX63_bytes mX64_to mX64_sector mJ1_modCount mJ2_elementData mJ2_size mJ5_elements mJ5_head mJ5_tail mJ22_cursor mJ22_remaining mJ22_lastRet mJ22_this_0 mJ23_cursor mJ23_lastRet mJ23_expectedModCount mJ23_this_0 sa x S → c + cntI (kdWg S.lt S.ld S.pl) m = cntI (kdWg S.lt S.ld S.pl) 30 → ((f = -1 ∧ ∀ q : Int, m ≤ q → q < 30 → ¬ kdWg S.lt S.ld S.pl q) ∨ (((m : Int) ≤ f ∧ f < 30) ∧ kdWg S.lt S.ld S.pl f ∧ ∀ q : Int, m ≤ q → q < f → ¬ kdWg S.lt S.ld S.pl q)) → kc2 + 3 * m ≤ kc + 90 → ks2 + 37 * m ≤ ks' + 1110 → wKD_X42_wrong_30 MC MS K x ar mX42_disk mX42_places mX42_laid mX42_waiting mX64_to mX64_sector mJ1_modCount mJ2_elementData mJ2_size mJ5_elements mJ5_head mJ5_tail mJ23_expectedModCount mJ23_this_0 (m + 1) c f ((m : Int) - 1) kd an ai mX63_bytes mJ22_cursor mJ22_remaining mJ22_lastRet mJ22_this_0 mJ23_cursor mJ23_lastRet kc2 ks2 := fun m => by
  induction m with
  | zero =>
    intro c f kd an ai mX63_bytes mJ22_cursor mJ22_remaining mJ22_lastRet mJ22_this_0 mJ23_cursor mJ23_lastRet kc2 ks2 hm O hc hf b1 b2
    rw [wKD_X42_wrong_30]
    refine ⟨fun _ => ?_, fun w => absurd (by decide) w⟩
    have h0 : cntI (kdWg S.lt S.ld S.pl) 0 = 0 := by unfold cntI; rfl
    rw [h0] at hc
    have ef : f = kdWl S.lt S.ld S.pl := by
      obtain ⟨fb, f1, f2⟩ := fstI_s (kdWg S.lt S.ld S.pl) 30
      have fb2 : fstI (kdWg S.lt S.ld S.pl) 30 ≤ 30 := fb.2
      have fb0 : 0 ≤ fstI (kdWg S.lt S.ld S.pl) 30 := fb.1
      unfold kdWl
      rcases hf with ⟨e, no⟩ | ⟨b, y, no⟩
      · rw [if_neg (fun w => no _ fb0 w (f1 w))]; exact e
      · have e2 : fstI (kdWg S.lt S.ld S.pl) 30 = f := by
          rcases Int.lt_trichotomy (fstI (kdWg S.lt S.ld S.pl) 30) f with z | z | z
          · exact absurd (f1 (by show fstI (kdWg S.lt S.ld S.pl) 30 < ((30 : Nat) : Int); omega)) (no _ fb0 z)
          · exact z
          · exact absurd y (f2 f b.1 z)
        rw [e2, if_pos b.2]
    rw [← ef] at hK
    rw [show c = cntI (kdWg S.lt S.ld S.pl) 30 by omega]
    exact hK kd an ai mX63_bytes _ _ _ _ _ _ kc2 ks2 O (by omega) (by omega)
  | succ m ih =>
    intro c f kd an ai mX63_bytes mJ22_cursor mJ22_remaining mJ22_lastRet mJ22_this_0 mJ23_cursor mJ23_lastRet kc2 ks2 hm O hc hf b1 b2
    have O0 := O
    obtain ⟨Rg, Lt, dq, pq, lq, ls, lb, d1, e1, c1, h1, w1, ws, wb, d2, e2, c2, h2, w2, l, e3, w3, C1, C2, C3, C4, C5, C6, C7, D1, D2, Mo⟩ := O
    rw [wKD_X42_wrong_30, show ((m + 1 : Nat) : Int) - 1 = (m : Int) by omega]
    have eC : ∀ y : Prop, (y ↔ kdWg S.lt S.ld S.pl m) → (y → cntI (kdWg S.lt S.ld S.pl) (m + 1) = cntI (kdWg S.lt S.ld S.pl) m + 1) ∧ (¬ y → cntI (kdWg S.lt S.ld S.pl) (m + 1) = cntI (kdWg S.lt S.ld S.pl) m) := fun y ey => by
      have e1 : (m + 1 : Nat) = ((m : Int) + 1).toNat := by omega
      have e2 : (m : Nat) = (m : Int).toNat := by omega
      refine ⟨fun w => ?_, fun w => ?_⟩
      · have := cntI_t (p := kdWg S.lt S.ld S.pl) (n := (m : Int)) (by omega) (ey.1 w)
        rw [← e1, ← e2] at this; exact this
      · have := cntI_f (p := kdWg S.lt S.ld S.pl) (n := (m : Int)) (by omega) (fun z => w (ey.2 z))
        rw [← e1, ← e2] at this; exact this
    have skip : ¬ kdWg S.lt S.ld S.pl m → ∀ (kd an : Nat → Nat) (ai : Nat → Int → Int) (mX63_bytes : Nat → Option Nat) (mJ22_cursor mJ22_remaining mJ22_lastRet : Nat → Int) (mJ22_this_0 : Nat → Option Nat) (mJ23_cursor mJ23_lastRet : Nat → Int) (kc3 ks3 : Nat), kdOK kd an ai al ar mX42_disk mX42_count mX42_runs mX42_isFull mX42_places mX42_laid mX42_changed mX42_waiting mX42_states mX42_kept mX43_number mX43_sectors mX63_bytes mX64_to mX64_sector mJ1_modCount mJ2_elementData mJ2_size mJ5_elements mJ5_head mJ5_tail mJ22_cursor mJ22_remaining mJ22_lastRet mJ22_this_0 mJ23_cursor mJ23_lastRet mJ23_expectedModCount mJ23_this_0 sa x S → kc3 ≤ kc2 + 3 → ks3 ≤ ks2 + 37 → ∀ x4 : Int, x4 = (m : Int) + (-1) → wKD_X42_wrong_30 MC MS K x ar mX42_disk mX42_places mX42_laid mX42_waiting mX64_to mX64_sector mJ1_modCount mJ2_elementData mJ2_size mJ5_elements mJ5_head mJ5_tail mJ23_expectedModCount mJ23_this_0 (m + 1) c f x4 kd an ai mX63_bytes mJ22_cursor mJ22_remaining mJ22_lastRet mJ22_this_0 mJ23_cursor mJ23_lastRet kc3 ks3 := fun no kd an ai mX63_bytes a1 a2 a3 a4 a5 a6 kc3 ks3 O' c1' c2' x4 ex => by
      have e := (eC _ Iff.rfl).2 no
      rw [ex, show (m : Int) + (-1) = (m : Int) - 1 by omega]
      refine ih c f kd an ai mX63_bytes a1 a2 a3 a4 a5 a6 kc3 ks3 (by omega) O' (by omega) ?_ (by omega) (by omega)
      rcases hf with ⟨ef, nf⟩ | ⟨bf, yf, nf⟩
      · refine Or.inl ⟨ef, fun q q0 q1 => ?_⟩
        by_cases z : q = m
        · rw [z]; exact no
        · exact nf q (by omega) q1
      · refine Or.inr ⟨by omega, yf, fun q q0 q1 => ?_⟩
        by_cases z : q = m
        · rw [z]; exact no
        · exact nf q (by omega) q1
    have hp := Rg.1 (m : Int) (by omega) (by omega)
    refine ⟨fun w => by omega, fun _ => kOn_of C2.1.1 ⟨C2.1.2.1, by rw [C2.1.2.2]; omega, ?_⟩⟩
    rw [C2.2 (m : Int) (by omega) (by omega)]
    refine ⟨fun e => ⟨by omega, skip (fun z => z.1 e) kd an ai mX63_bytes _ _ _ _ _ _ kc2 ks2 O0 (by omega) (by omega)⟩, fun ne => kOn_of C3.1.1 ⟨C3.1.2.1, by rw [C3.1.2.2]; omega, fun r er => ?_⟩⟩
    have e0 := C3.2.1 (S.pl m) (by omega) (by omega)
    refine ⟨fun rn => ?_, fun y ry => ⟨by omega, ?_⟩⟩
    rotate_left
    · have lk : ¬ S.ld (S.pl m) = 0 := fun z => by
        rw [if_pos z] at e0
        rw [er, e0] at ry; exact (nomatch ry)
      exact skip (fun z => lk z.2.1) kd an ai mX63_bytes _ _ _ _ _ _ kc2 ks2 O0 (by omega) (by omega)
    have lk : S.ld (S.pl m) = 0 := Classical.byContradiction fun z => by
      rw [if_neg z] at e0
      rw [er, e0] at rn; exact (nomatch rn)
    have cbb := cntI_b (kdWg S.lt S.ld S.pl) 30
    have cbb2 := cntI_b (kdWg S.lt S.ld S.pl) (m + 1)
    refine ⟨3, 37, by omega, CKD_sector (by decide) (by omega) Lt C1 C3 C4 (fun s b kd' an' ai' mB' J1 J2 J3 J4 J5 J6 K1 S1 _ => kOn_some ⟨S1.1, by omega, CKD_isRightO lk S1 (fun good => ⟨by omega, ?_⟩) (fun bad => ⟨by omega, fun c2' ec2 => ⟨by omega, fun x4 ex4 => ?_⟩⟩)⟩)⟩
    · exact skip (fun z => z.2.2 good) kd' an' ai' mB' J1 J2 J3 J4 J5 J6 _ _ (O0.kp K1) (by omega) (by omega)
    · have e := (eC _ Iff.rfl).1 ⟨ne, lk, bad⟩
      rw [ex4, ec2, show (m : Int) + (-1) = (m : Int) - 1 by omega]
      exact ih (c + 1) m kd' an' ai' mB' J1 J2 J3 J4 J5 J6 _ _ (by omega) (O0.kp K1) (by omega) (Or.inr ⟨by omega, ⟨ne, lk, bad⟩, fun q q0 q1 => by omega⟩) (by omega) (by omega)
theorem CKD_wrong {post : Int → (Nat → Nat) → (Nat → Nat) → (Nat → Int → Int) → (Nat → Option Nat) → (Nat → Int) → (Nat → Int) → (Nat → Int) → (Nat → Option Nat) → (Nat → Int) → (Nat → Int) → Prop} (hM : 90 ≤ MC ∧ 1110 ≤ MS) (O : kdOK kd an ai al ar mX42_disk mX42_count mX42_runs mX42_isFull mX42_places mX42_laid mX42_changed mX42_waiting mX42_states mX42_kept mX43_number mX43_sectors mX63_bytes mX64_to mX64_sector mJ1_modCount mJ2_elementData mJ2_size mJ5_elements mJ5_head mJ5_tail mJ22_cursor mJ22_remaining mJ22_lastRet mJ22_this_0 mJ23_cursor mJ23_lastRet mJ23_expectedModCount mJ23_this_0 sa x S) (H : ∀ kd' an' ai' mB' J1 J2 J3 J4 J5 J6, kdOK (kd') (an') (ai') al ar mX42_disk mX42_count mX42_runs mX42_isFull mX42_places mX42_laid mX42_changed mX42_waiting mX42_states mX42_kept mX43_number mX43_sectors (mB') mX64_to mX64_sector mJ1_modCount mJ2_elementData mJ2_size mJ5_elements mJ5_head mJ5_tail J1 J2 J3 J4 J5 J6 mJ23_expectedModCount mJ23_this_0 sa x S → post (kdWq S.ru S.lt S.ld S.pl what) kd' an' ai' mB' J1 J2 J3 J4 J5 J6) : wpKD_X42_wrong MC MS post kd an ai ar mX42_disk mX42_runs mX42_places mX42_laid mX42_waiting mX63_bytes mX64_to mX64_sector mJ1_modCount mJ2_elementData mJ2_size mJ5_elements mJ5_head mJ5_tail mJ22_cursor mJ22_remaining mJ22_lastRet mJ22_this_0 mJ23_cursor mJ23_lastRet mJ23_expectedModCount mJ23_this_0 x what := by
  have O0 := O
  obtain ⟨Rg, Lt, dq, pq, lq, ls, lb, d1, e1, c1, h1, w1, ws, wb, d2, e2, c2, h2, w2, l, e3, w3, C1, C2, C3, C4, C5, C6, C7, D1, D2, Mo⟩ := O
  unfold kdWq at H
  unfold wpKD_X42_wrong
  rw [C1.2.1.2.1]
  have no2 : ¬ S.ru = 0 → (what < 0 ∨ 2 < what) → post (-2) kd an ai mX63_bytes mJ22_cursor mJ22_remaining mJ22_lastRet mJ22_this_0 mJ23_cursor mJ23_lastRet := fun r0 w => by
    rw [if_neg r0, if_pos w] at H
    exact H _ _ _ _ _ _ _ _ _ _ O0
  refine ⟨fun r0 => ⟨by omega, by omega, ?_⟩, fun r0 => ⟨fun w => ⟨by omega, by omega, no2 r0 (Or.inl w)⟩, fun w0 => ⟨fun w2 => ?_, fun w => ⟨by omega, by omega, no2 r0 (by omega)⟩⟩⟩⟩
  · rw [if_pos r0] at H
    exact H _ _ _ _ _ _ _ _ _ _ O0
  rw [if_neg r0, if_neg (by omega)] at H
  refine ⟨31, CKD_w30 (S := S) (kc := 0) (ks' := 0) (by omega) (fun kd1 an1 ai1 mB1 J1 J2 J3 J4 J5 J6 kc1 ks1 O1 b1 b2 => ?_) 30 0 (-1) kd an ai mX63_bytes _ _ _ _ _ _ 0 0 (by decide) O0 (by omega) (Or.inl ⟨rfl, fun q q0 q1 => by omega⟩) (by omega) (by omega)⟩
  have HH := H kd1 an1 ai1 mB1 J1 J2 J3 J4 J5 J6 O1
  refine ⟨fun e => ?_, fun e => ⟨fun e2 => ?_, fun e2 => ⟨fun e3' => ?_, fun e3' => ?_⟩⟩⟩
  · rw [if_pos e] at HH
    exact ⟨by omega, by omega, HH⟩
  · rw [if_neg e, if_pos e2] at HH
    exact ⟨by omega, by omega, HH⟩
  · rw [if_neg e, if_neg e2, if_pos e3'] at HH
    exact ⟨by omega, by omega, HH⟩
  · rw [if_neg e, if_neg e2, if_neg e3'] at HH
    have lb2 : 0 ≤ kdWl S.lt S.ld S.pl ∧ kdWl S.lt S.ld S.pl < 30 := by
      obtain ⟨fb, _, _⟩ := fstI_s (kdWg S.lt S.ld S.pl) 30
      unfold kdWl at e2 ⊢
      by_cases z : fstI (kdWg S.lt S.ld S.pl) 30 < 30
      · rw [if_pos z]; exact ⟨fb.1, z⟩
      · rw [if_neg z] at e2; exact absurd rfl e2
    obtain ⟨_, _, dq1, pq1, _, _, _, _, _, _, _, _, _, _, _, _, _, _, _, _, _, _, _, A2, _⟩ := O1
    refine kOn_of A2.1.1 ⟨A2.1.2.1, by rw [A2.1.2.2]; exact lb2, by omega, by omega, ?_⟩
    rw [A2.2 _ lb2.1 lb2.2]; exact HH
theorem CKD_backup {post : Int → (Nat → Nat) → (Nat → Nat) → (Nat → Int → Option Nat) → (Nat → Int) → (Nat → Option Nat) → (Nat → Int) → Prop} (hM : 1 ≤ MC ∧ 20 ≤ MS) (hmo : S.mo < 90000) (O : kdOK kd an ai al ar mX42_disk mX42_count mX42_runs mX42_isFull mX42_places mX42_laid mX42_changed mX42_waiting mX42_states mX42_kept mX43_number mX43_sectors mX63_bytes mX64_to mX64_sector mJ1_modCount mJ2_elementData mJ2_size mJ5_elements mJ5_head mJ5_tail mJ22_cursor mJ22_remaining mJ22_lastRet mJ22_this_0 mJ23_cursor mJ23_lastRet mJ23_expectedModCount mJ23_this_0 sa x S) (H : ∀ kd' an' ar' M' E' Z', kdOK (kd') (an') ai al (ar') mX42_disk mX42_count mX42_runs mX42_isFull mX42_places mX42_laid mX42_changed mX42_waiting mX42_states mX42_kept mX43_number mX43_sectors mX63_bytes mX64_to mX64_sector (M') (E') (Z') mJ5_elements mJ5_head mJ5_tail mJ22_cursor mJ22_remaining mJ22_lastRet mJ22_this_0 mJ23_cursor mJ23_lastRet mJ23_expectedModCount mJ23_this_0 sa x (kdBk S v).2 → post (kdBk S v).1 kd' an' ar' M' E' Z') : wpKD_X42_backup MC MS post kd an ar mX42_runs mX42_states mX42_kept mX43_number mX43_sectors mJ1_modCount mJ2_elementData mJ2_size mJ5_elements mJ5_tail sa x v := by
  have O0 := O
  obtain ⟨Rg, Lt, dq, pq, lq, ls, lb, d1, e1, c1, h1, w1, ws, wb, d2, e2, c2, h2, w2, l, e3, w3, C1, C2, C3, C4, C5, C6, C7, D1, D2, Mo⟩ := O
  have kr := Rg.2.2.2.2.2.1
  have hk4 := Rg.2.2.2.2.2.2
  unfold kdBk at H
  unfold wpKD_X42_backup
  rw [C1.2.1.2.1]
  refine ⟨fun r0 => ⟨by omega, by omega, ?_⟩, fun r0 => ⟨by omega, CKD_latest C5 kr.2.1 ?_⟩⟩
  · rw [if_pos r0] at H
    exact H _ _ _ _ _ _ O0
  rw [if_neg r0] at H
  obtain ⟨k2, en, es⟩ := C5.2.2 (S.nw - S.ol) (by omega) (by omega)
  rw [show S.ol + (S.nw - S.ol) = S.nw by omega] at en es
  refine kOn_some ⟨k2, by omega, ?_⟩
  unfold wpKD_X43_number
  rw [en]
  refine ⟨fun e => ?_, fun e => ⟨by omega, by omega, ?_⟩⟩
  rotate_left
  · rw [if_pos e] at H
    exact H _ _ _ _ _ _ O0
  rw [if_neg (fun w => w e)] at H
  refine kOn_of C6.1.1 ⟨C6.1.2, by omega, ?_⟩
  unfold wpKD_J2_size
  rw [C6.2.1.2.1]
  refine ⟨fun e4 => ⟨by omega, by omega, ?_⟩, fun e4 => ⟨by omega, CKD_latest C5 kr.2.1 ?_⟩⟩
  · rw [if_pos e4] at H
    exact H _ _ _ _ _ _ O0
  rw [if_neg e4] at H
  have mm := C6.2.2.1
  refine ⟨1, 20, by omega, CKD_ladd C6.2.1 (by omega) (by omega) (by decide) (by omega) (fun i i0 i1 => ?_) ?_ (fun kd' an' ar' E' e' le L' he hA hE ke' hs0 _ => ⟨by omega, ?_⟩)⟩
  · unfold ekKD
    rw [(C6.2.2.2 i i0 i1).1]; exact Or.inl rfl
  · unfold ekKD
    rw [k2]; exact Or.inl rfl
  have h3 : 0 < S.kn → kd e3 = 13 := fun n0 => (C6.2.1.at (Int.le_refl 0) n0).1
  have ne1 : ¬ e' = e1 ∧ ¬ e' = e2 := by
    have a1 := C4.2.1.1.2.2.1
    have a2 := C5.2.1.1.2.2.1
    rcases he with ⟨h, h13⟩ | h
    · rw [h]; exact ⟨D1.2 hs0 h13 a1, D2.2 hs0 h13 a2⟩
    · exact ⟨fun z => by rw [z] at h; omega, fun z => by rw [z] at h; omega⟩
  have K : kdKx (fun _ => False) (fun r => r = e') (fun _ => False) kd an ai ar mX63_bytes mX64_to mX64_sector mX43_number mX43_sectors mJ5_elements mJ5_head mJ5_tail kd' an' ai ar' mX63_bytes mX64_to mX64_sector mX43_number mX43_sectors mJ5_elements mJ5_head mJ5_tail := fun r hr => ⟨⟨(le r hr).1, (le r hr).2, rfl⟩, ⟨rfl, rfl⟩, ⟨rfl, rfl⟩, fun _ => rfl, fun z => (hA r z).2.2, fun _ => ⟨rfl, rfl, rfl⟩⟩
  have klq := C3.1.2.1
  have C5' := C5.kx K (fun z => ne1.2 z.symm) id
  refine CKD_latest C5' kr.2.1 ?_
  obtain ⟨k2', _, es'⟩ := C5'.2.2 (S.nw - S.ol) (by omega) (by omega)
  rw [show S.ol + (S.nw - S.ol) = S.nw by omega] at es'
  refine kOn_some ⟨k2', by omega, ?_⟩
  unfold wpKD_X43_sectors
  rw [es']
  refine ⟨by omega, CKD_bits ⟨by omega, by omega, ?_⟩⟩
  have ebc : cntI (fun i => zb (S.se S.nw) i.toNat = 1) 64 = kdBc (S.se S.nw) := cntI_c (fun i _ _ => Iff.rfl)
  rw [ebc]
  have hzs := Rg.2.2.1 S.nw kr.2.1 (Int.le_refl _)
  refine H _ _ _ _ _ _ ⟨⟨Rg.1, Rg.2.1, Rg.2.2.1, fun s s0 s1 => ?_, Rg.2.2.2.2.1, kr, ?_⟩, Lt, dq, pq, lq, ls, lb, d1, e1, c1, h1, w1, ws, wb, d2, e2, c2, h2, w2, l, e', updI w3 S.kn (w2 (S.nw - S.ol)), C1.kx K id, C2.kx K id, C3.kx K (fun z => ?_) (fun _ _ _ _ => id), C4.kx K (fun z => ne1.1 z.symm) id (fun _ _ _ => id), C5', ⟨⟨C6.1.1, ?_⟩, L', ?_, fun i i0 i1 => ?_⟩, C7, ⟨fun _ => ne1.1, fun _ _ _ => ne1.1⟩, ⟨fun _ => ne1.2, fun _ _ _ => ne1.2⟩, ?_⟩
  · have s1' : s < S.kn + 1 := s1
    show zL (updI S.ks S.kn (S.se S.nw) s)
    by_cases z : s = S.kn
    · rw [z, updI_s]; exact hzs
    · rw [updI_n z]; exact Rg.2.2.2.1 s s0 (by omega)
  · show 0 ≤ S.kn + 1 ∧ S.kn + 1 ≤ 4
    omega
  · rcases he with ⟨h, h13⟩ | h
    · rw [z, h] at klq; omega
    · rw [← z] at h; omega
  · exact (le l (by have := C6.1.2; omega)).1.trans C6.1.2
  · rw [va_up_self]; omega
  · have i1' : i < S.kn + 1 := i1
    show kd' (updI w3 S.kn (w2 (S.nw - S.ol)) i) = 2 ∧ mX43_number (updI w3 S.kn (w2 (S.nw - S.ol)) i) = updI S.ku S.kn v i ∧ mX43_sectors (updI w3 S.kn (w2 (S.nw - S.ol)) i) = updI S.ks S.kn (S.se S.nw) i
    by_cases z : i = S.kn
    · rw [z, updI_s, updI_s, updI_s]
      exact ⟨k2', en.trans e, es⟩
    · rw [updI_n z, updI_n z, updI_n z]
      have u := C6.2.2.2 i i0 (by omega)
      exact ⟨(le _ (by omega)).1.trans u.1, u.2⟩
  · show va_up mJ1_modCount l (mJ1_modCount l + 1) l ≤ S.mo + 1 ∧ S.mo + 1 ≤ 90000
    rw [va_up_self]; omega
theorem kdHd_lo {pl tg se ks : Int → Int} {fi be ol nw kn f k : Int} (hf : 0 ≤ f ∧ f < kn) (h : kdHd pl tg fi be se ol nw (kdLo ks f (kn - 1)) (kn - 1) k) : kdHd pl tg fi be se ol nw ks kn k := by
  rcases h with h | h | h | ⟨s, hs, b⟩
  · exact Or.inl h
  · exact Or.inr (Or.inl h)
  · exact Or.inr (Or.inr (Or.inl h))
  · refine Or.inr (Or.inr (Or.inr ?_))
    unfold kdLo at b
    by_cases w : f ≤ s ∧ s < kn - 1
    · rw [if_pos w] at b; exact ⟨s + 1, by omega, b⟩
    · rw [if_neg w] at b; exact ⟨s, by omega, b⟩
theorem CKD_drop {post : Int → (Nat → Nat) → (Nat → Int → Option Nat) → (Nat → Int) → (Nat → Int) → (Nat → Int) → (Nat → Int) → (Nat → Int) → (Nat → Option Nat) → (Nat → Int) → (Nat → Int) → (Nat → Int) → (Nat → Option Nat) → Prop} (hM : 6 ≤ MC ∧ 24 ≤ MS) (hmo : S.mo < 90000) (O : kdOK kd an ai al ar mX42_disk mX42_count mX42_runs mX42_isFull mX42_places mX42_laid mX42_changed mX42_waiting mX42_states mX42_kept mX43_number mX43_sectors mX63_bytes mX64_to mX64_sector mJ1_modCount mJ2_elementData mJ2_size mJ5_elements mJ5_head mJ5_tail mJ22_cursor mJ22_remaining mJ22_lastRet mJ22_this_0 mJ23_cursor mJ23_lastRet mJ23_expectedModCount mJ23_this_0 sa x S) (hks : ∀ s, 0 ≤ s → s < S.kn → ¬ kdBt (S.ks s) 0 ∧ ¬ kdBt (S.ks s) 1) (H : ∀ kd' ar' M' Z' J1 J2 J3 J4 J5 J6 J7 J8, kdOK (kd') an ai al (ar') mX42_disk mX42_count mX42_runs mX42_isFull mX42_places mX42_laid mX42_changed mX42_waiting mX42_states mX42_kept mX43_number mX43_sectors mX63_bytes mX64_to mX64_sector (M') mJ2_elementData (Z') mJ5_elements mJ5_head mJ5_tail J1 J2 J3 J4 J5 J6 J7 J8 sa x (kdDp S v).2 → post (kdDp S v).1 kd' ar' M' Z' J1 J2 J3 J4 J5 J6 J7 J8) : wpKD_X42_drop MC MS post kd an ai ar mX42_runs mX42_places mX42_waiting mX42_states mX42_kept mX43_number mX43_sectors mX64_to mJ1_modCount mJ2_elementData mJ2_size mJ5_elements mJ5_head mJ5_tail mJ22_cursor mJ22_remaining mJ22_lastRet mJ22_this_0 mJ23_cursor mJ23_lastRet mJ23_expectedModCount mJ23_this_0 x v := by
  have O0 := O
  obtain ⟨Rg, Lt, dq, pq, lq, ls, lb, d1, e1, c1, h1, w1, ws, wb, d2, e2, c2, h2, w2, l, e3, w3, C1, C2, C3, C4, C5, C6, C7, D1, D2, Mo⟩ := O
  have kr := Rg.2.2.2.2.2.1
  have hk4 := Rg.2.2.2.2.2.2
  have mm := C6.2.2.1
  unfold kdDp at H
  unfold wpKD_X42_drop
  rw [C1.2.1.2.1]
  refine ⟨fun r0 => ⟨by omega, by omega, ?_⟩, fun r0 => ?_⟩
  · rw [if_pos r0] at H
    exact H _ _ _ _ _ _ _ _ _ _ _ _ O0
  rw [if_neg r0] at H
  obtain ⟨fb, f1, f2⟩ := fstI_s (fun j => S.ku j = v) S.kn.toNat
  have ef : kdKf S.ku S.kn v = fstI (fun j => S.ku j = v) S.kn.toNat := rfl
  generalize kdKf S.ku S.kn v = F at ef H
  rw [← ef] at fb f1 f2
  clear ef
  have done : ∀ y : Int, y = F → wKD_X42_drop_47 MC MS post x y kd an ai ar mX42_places mX42_waiting mX42_states mX42_kept mX43_sectors mX64_to mJ1_modCount mJ2_elementData mJ2_size mJ5_elements mJ5_head mJ5_tail mJ22_cursor mJ22_remaining mJ22_lastRet mJ22_this_0 mJ23_cursor mJ23_lastRet mJ23_expectedModCount mJ23_this_0 0 0 := fun y ey => by
    rw [ey]
    unfold wKD_X42_drop_47
    refine kOn_of C6.1.1 ⟨C6.1.2, by omega, ?_⟩
    unfold wpKD_J2_size
    rw [C6.2.1.2.1]
    refine ⟨fun e => ⟨by omega, by omega, ?_⟩, fun e => ⟨3, 12, by omega, CKD_held (by decide) Rg C2 C4 C5 C6 (fun r kd1 J1 J2 J3 J4 J5 J6 J7 J8 hr hb K1 _ => ⟨by omega, ?_⟩)⟩⟩
    · rw [if_pos e] at H
      exact H _ _ _ _ _ _ _ _ _ _ _ _ O0
    rw [if_neg e] at H
    have hF : 0 ≤ F ∧ F < S.kn := by have := fb.1; have := fb.2; omega
    have L1 := (C6.kp K1).2.1
    refine CKD_lrem L1 (by omega) (by omega) (fun i i0 i1 => ?_) hF.1 hF.2 (fun g hg => ?_)
    · unfold ekKD
      have u := ((C6.kp K1).2.2.2 i i0 i1).1
      rw [u]; exact Or.inl rfl
    have n0 : 0 < S.kn := by omega
    have x1 := D1.1 n0
    have x2 := D2.1 n0
    have k3 := (C6.2.1.at (Int.le_refl 0) n0).1
    have klq := C3.1.2.1
    have K2 : kdKx (fun _ => False) (fun r => r = e3) (fun _ => False) kd an ai ar mX63_bytes mX64_to mX64_sector mX43_number mX43_sectors mJ5_elements mJ5_head mJ5_tail kd1 an ai (va_up ar e3 g) mX63_bytes mX64_to mX64_sector mX43_number mX43_sectors mJ5_elements mJ5_head mJ5_tail := fun r hr => ⟨⟨(K1 r hr).1, (K1 r hr).2.1, rfl⟩, ⟨rfl, rfl⟩, ⟨rfl, rfl⟩, fun _ => rfl, fun z => va_up_ne _ _ z, fun _ => ⟨rfl, rfl, rfl⟩⟩
    have L2 : lsOK kd1 an (va_up ar e3 g) mJ2_elementData (va_up mJ2_size l (S.kn - 1)) 13 (sa 0) l e3 (S.kn - 1) (fun j => w3 (if j < F then j else j + 1)) := by
      obtain ⟨p1, p2, p3, p4, p5⟩ := L1
      refine ⟨p1, va_up_self _ _ _, by omega, ?_, fun i i0 i1 => by rw [va_up_self]; exact hg i i0 i1⟩
      rcases p4 with h | h
      · exact Or.inl ⟨h.1, h.2.1, by omega⟩
      · exact absurd h.2 (by omega)
    have X6 : kdC6 kd1 an (va_up ar e3 g) sa mX42_kept mX43_number mX43_sectors mJ2_elementData (va_up mJ2_size l (S.kn - 1)) (va_up mJ1_modCount l (mJ1_modCount l + 1)) x l e3 (fun j => w3 (if j < F then j else j + 1)) (S.kn - 1) (kdLo S.ku F (S.kn - 1)) (kdLo S.ks F (S.kn - 1)) := by
      refine ⟨⟨C6.1.1, (C6.kp K1).1.2⟩, L2, by rw [va_up_self]; omega, fun i i0 i1 => ?_⟩
      unfold kdLo
      by_cases w : i < F
      · dsimp only
        rw [if_pos w, if_neg (by omega), if_neg (by omega)]
        exact (C6.kp K1).2.2.2 i i0 (by omega)
      · dsimp only
        rw [if_neg w, if_pos (by omega), if_pos (by omega)]
        exact (C6.kp K1).2.2.2 (i + 1) (by omega) (by omega)
    have Rg' : kdRg S.pl S.tg S.fi S.be S.se S.ol S.nw (kdLo S.ks F (S.kn - 1)) (S.kn - 1) := ⟨Rg.1, Rg.2.1, Rg.2.2.1, fun s s0 s1 => by
      unfold kdLo
      split
      · exact Rg.2.2.2.1 (s + 1) (by omega) (by omega)
      · exact Rg.2.2.2.1 s s0 (by omega), Rg.2.2.2.2.1, kr, by omega⟩
    refine ⟨3, 12, by omega, CKD_held (by decide) Rg' (C2.kx K2 id) (C4.kx K2 (fun z => x1 z.symm) id (fun _ _ _ => id)) (C5.kx K2 (fun z => x2 z.symm) id) X6 (fun r2 kd2 J1' J2' J3' J4' J5' J6' J7' J8' hr2 hb2 K3 _ => ⟨by omega, CKD_bits ⟨by omega, by omega, ?_⟩⟩)⟩
    have cnt : cntI (fun i => zb (zLand r (-r2 - 1)) i.toNat = 1) 64 = kdHc S.pl S.tg S.fi S.be S.se S.ol S.nw S.ks S.kn - kdHc S.pl S.tg S.fi S.be S.se S.ol S.nw (kdLo S.ks F (S.kn - 1)) (S.kn - 1) := by
      have c1' : cntI (fun i => zb (zLand r (-r2 - 1)) i.toNat = 1) 64 = cntI (fun i => kdHd S.pl S.tg S.fi S.be S.se S.ol S.nw S.ks S.kn i ∧ ¬ kdHd S.pl S.tg S.fi S.be S.se S.ol S.nw (kdLo S.ks F (S.kn - 1)) (S.kn - 1) i) 64 := cntI_c (fun i i0 i1 => by
        have ei : ((i.toNat : Nat) : Int) = i := by omega
        have a1 := hb i.toNat (by omega)
        have a2 := hb2 i.toNat (by omega)
        rw [ei] at a1 a2
        rw [zb_and64 hr (by omega) (by omega), zb_not, a1, a2])
      rw [c1', show (64 : Nat) = 2 + 62 from rfl, cntI_add]
      have z2 : cntI (fun i => kdHd S.pl S.tg S.fi S.be S.se S.ol S.nw S.ks S.kn i ∧ ¬ kdHd S.pl S.tg S.fi S.be S.se S.ol S.nw (kdLo S.ks F (S.kn - 1)) (S.kn - 1) i) 2 = 0 := cntI_0 (fun i i0 i1 ⟨a, b⟩ => by
        rcases a with a | a | a | ⟨s, hs, a⟩
        · exact b (Or.inl a)
        · exact b (Or.inr (Or.inl a))
        · exact b (Or.inr (Or.inr (Or.inl a)))
        · have q := hks s hs.1 hs.2
          have : i = 0 ∨ i = 1 := by omega
          rcases this with z | z
          · rw [z] at a; exact q.1 a
          · rw [z] at a; exact q.2 a)
      rw [z2, Int.zero_add]
      exact cntI_sub (p := fun j => kdHd S.pl S.tg S.fi S.be S.se S.ol S.nw S.ks S.kn (2 + j)) (q := fun j => kdHd S.pl S.tg S.fi S.be S.se S.ol S.nw (kdLo S.ks F (S.kn - 1)) (S.kn - 1) (2 + j)) (fun i h => kdHd_lo hF h) 62
    rw [cnt]
    refine H _ _ _ _ _ _ _ _ _ _ _ _ ⟨Rg', Lt, dq, pq, lq, ls, lb, d1, e1, c1, h1, w1, ws, wb, d2, e2, c2, h2, w2, l, e3, _, (C1.kx K2 id).kp K3, (C2.kx K2 id).kp K3, (C3.kx K2 (fun z => ?_) (fun _ _ _ _ => id)).kp K3, (C4.kx K2 (fun z => x1 z.symm) id (fun _ _ _ => id)).kp K3, (C5.kx K2 (fun z => x2 z.symm) id).kp K3, X6.kp K3, C7, ?_, ?_, ?_⟩
    · rw [z] at klq; omega
    · exact ⟨fun _ => x1, fun _ _ _ => x1⟩
    · exact ⟨fun _ => x2, fun _ _ _ => x2⟩
    · show va_up mJ1_modCount l (mJ1_modCount l + 1) l ≤ S.mo + 1 ∧ S.mo + 1 ≤ 90000
      rw [va_up_self]; omega
  refine wloop (fun f y => wKD_X42_drop_12 MC MS _ x v kd an ar mX42_kept mX43_number mJ2_elementData mJ2_size 0 0 f y) (fun y => 0 ≤ y ∧ y ≤ F) (fun y => (S.kn - y).toNat) ?_ 0 ⟨by decide, fb.1⟩
  rintro y ⟨y0, y1⟩ f ih
  rw [wKD_X42_drop_12]
  have fb2 := fb.2
  refine kOn_of C6.1.1 ⟨C6.1.2, by omega, ?_⟩
  unfold wpKD_J2_size
  rw [C6.2.1.2.1]
  refine ⟨fun w => done y (by omega), fun w => ⟨by omega, CKD_lget C6.2.1 y0 (by omega) ?_⟩⟩
  obtain ⟨k2, en, _⟩ := C6.2.2.2 y y0 (by omega)
  refine kOn_some ⟨k2, by omega, ?_⟩
  unfold wpKD_X43_number
  rw [en]
  refine ⟨fun e => done y ?_, fun e => ⟨by omega, fun y2 ey => ?_⟩⟩
  · rcases Int.lt_or_eq_of_le y1 with q | q
    · exact absurd e (f2 y y0 q)
    · exact q
  · have ne : ¬ F = y := fun q => by
      have := f1 (by omega)
      rw [q] at this
      exact e this
    subst ey
    exact ih _ ⟨by omega, by omega⟩ (by omega)
end
