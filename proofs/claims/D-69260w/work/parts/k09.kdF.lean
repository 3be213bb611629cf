/-! KnowDisk, the component: heads that are whole -/
theorem kdBt_zb {s : Int} {j : Nat} : kdBt s (j : Int) ↔ zb s j = 1 := kdBt_n
theorem kd2_48 : ∀ k : Nat, k < 64 → 16 ≤ k → (18446744073709551616 : Int) ≤ 2 ^ (48 + k) := by decide
theorem kd_ush {s : Int} (hs : zL s) : zLushr s 48 = (s % 18446744073709551616) / 281474976710656 := by
  have ea : (Int64.ofInt s).toInt = s := by rw [zL_of, w64_id hs]
  unfold zLushr
  exact zL_ushr (a := Int64.ofInt s) (m := Int32.ofInt 48) (k := 48) ea ⟨by decide, by decide, by decide⟩ (by decide)
theorem kd_hi {s : Int} (hs : zL s) : zLushr s 48 = 0 ↔ ∀ j : Nat, 48 ≤ j → j < 64 → zb s j = 0 := by
  rw [kd_ush hs]
  have hm : ∀ j : Nat, j < 64 → zb (s % 18446744073709551616) j = zb s j := fun j hj => zb_m (x := s) (k := j) (w := 64) hj
  have b0 : 0 ≤ s % 18446744073709551616 ∧ s % 18446744073709551616 < 18446744073709551616 := by omega
  generalize s % 18446744073709551616 = U at hm b0 ⊢
  have sh : ∀ j : Nat, zb (U / 281474976710656) j = zb U (48 + j) := fun j => by
    unfold zb
    rw [Int.pow_add, show (2 : Int) ^ 48 = 281474976710656 by decide, Int.ediv_ediv_of_nonneg (by decide)]
  refine ⟨fun z j j0 j1 => ?_, fun h => zb_064 (by omega) (fun k hk => ?_)⟩
  · rw [← hm j j1, show j = 48 + (j - 48) by omega, ← sh, z, zb_zero]
  · rw [sh]
    by_cases w : 48 + k < 64
    · rw [hm _ w]; exact h _ (by omega) w
    · have : U / 2 ^ (48 + k) = 0 := by
        apply Int.ediv_eq_zero_of_lt b0.1
        have := kd2_48 k hk (by omega)
        omega
      unfold zb
      rw [this]; rfl
theorem kd_lo {s : Int} : s % 4 = 0 ↔ zb s 0 = 0 ∧ zb s 1 = 0 := by
  unfold zb
  rw [show (2 : Int) ^ 0 = 1 by decide, show (2 : Int) ^ 1 = 2 by decide]
  omega
theorem kdAx_skip {dk : Int → Int} {s : Int} {b : Nat} : ∀ n : Nat, (∀ i : Nat, b ≤ i → i < b + n → zb s i = 0) → kdAx dk s (b + n) = kdAx dk s b
  | 0, _ => rfl
  | n + 1, h => by
    have ih := kdAx_skip (dk := dk) n (fun i a c => h i a (by omega))
    rw [show b + (n + 1) = (b + n) + 1 by omega, kdAx, pif_f, ih]
    intro z
    rw [kdBt_zb, h (b + n) (by omega) (by omega)] at z
    exact absurd z (by decide)
theorem kd_cut1 {x : Int} (hx : zL x) {k : Nat} (hk : k < 64) : zb (zLand x (x - 1)) k = 1 ↔ zb x k = 1 ∧ ∃ j, j < k ∧ zb x j = 1 := by
  have e : zLand x (x - 1) = zLand x (w64 (x - 1)) := by
    have e4 : Int64.ofInt (w64 (x - 1)) = Int64.ofInt (x - 1) := by rw [← zL_of, Int64.ofInt_toInt]
    unfold zLand
    rw [e4]
  rw [e]
  exact zb_cut64 hx hk
theorem kd_and_L (x y : Int) : zL (zLand x y) := zr_and64 _ _
section
variable {kd : Nat → Nat} {an : Nat → Nat} {ai : Nat → Int → Int} {al : Nat → Int → Int} {ar : Nat → Int → Option Nat} {mX42_disk : Nat → Option Nat} {mX42_count : Nat → Int} {mX42_runs : Nat → Int} {mX42_isFull : Nat → Int} {mX42_places : Nat → Option Nat} {mX42_laid : Nat → Option Nat} {mX42_changed : Nat → Int} {mX42_waiting : Nat → Option Nat} {mX42_states : Nat → Option Nat} {mX42_kept : Nat → Option Nat} {mX43_number : Nat → Int} {mX43_sectors : Nat → Int} {mX63_bytes : Nat → Option Nat} {mX64_to : Nat → Int} {mX64_sector : Nat → Option Nat} {mJ1_modCount : Nat → Int} {mJ2_elementData : Nat → Option Nat} {mJ2_size : Nat → Int} {mJ5_elements : Nat → Option Nat} {mJ5_head : Nat → Int} {mJ5_tail : Nat → Int} {mJ22_cursor : Nat → Int} {mJ22_remaining : Nat → Int} {mJ22_lastRet : Nat → Int} {mJ22_this_0 : Nat → Option Nat} {mJ23_cursor : Nat → Int} {mJ23_lastRet : Nat → Int} {mJ23_expectedModCount : Nat → Int} {mJ23_this_0 : Nat → Option Nat} {sa : Nat → Nat} {d e q x l dq pq lq d1 e1 d2 e2 e3 s b : Nat} {cap hd n i c1 h1 c2 h2 : Int} {el f ls lb ws wb w1 w2 w3 w : Int → Nat} {MC MS kc ks' : Nat} {A B : Prop} {dk op lt ld pl tg by' nu se ku ks : Int → Int} {fi be ol nw kn k p v ru fu ch lo : Int} {fn : Int → Int} {P : Nat → Prop} {kd' an' : Nat → Nat} {ai' : Nat → Int → Int} {ar' : Nat → Int → Option Nat} {mB' mS' mE' : Nat → Option Nat} {mO' mN' mU' mH' mT' : Nat → Int} {S : KS} {a to fr nr nn ss keep tear : Int} {src op' ld' : Int → Int} {e' sp wq : Nat} {Q Qr Qd : Nat → Prop}
/-- the next lowest bit -/
theorem CKD_low {post : Int → Prop} {left s : Int} {b : Nat} (hl : zL left) (h0 : ¬ left = 0) (hb : ∀ j : Nat, j < 64 → (zb left j = 1 ↔ zb s j = 1 ∧ b ≤ j)) (hp : ∀ t : Nat, t < 64 → b ≤ t → zb s t = 1 → (∀ i : Nat, b ≤ i → i < t → zb s i = 0) → (zL (zLand left (left - 1)) ∧ ∀ j : Nat, j < 64 → (zb (zLand left (left - 1)) j = 1 ↔ zb s j = 1 ∧ t + 1 ≤ j)) → post t) : wpKD_J21_numberOfTrailingZeros post left := by
  refine CKD_ntz64 hl h0 (fun t ht h1 h2 => ?_)
  have ht2 := (hb t ht).1 h1
  have low : ∀ i : Nat, b ≤ i → i < t → zb s i = 0 := fun i i0 i1 => zb_n0 (fun z => by
    have := (hb i (by omega)).2 ⟨z, i0⟩
    rw [h2 i i1] at this; exact absurd this (by decide))
  refine hp t ht ht2.2 ht2.1 low ⟨kd_and_L _ _, fun j hj => ?_⟩
  rw [kd_cut1 hl hj, hb j hj]
  refine ⟨fun ⟨z, i, i1, i2⟩ => ⟨z.1, ?_⟩, fun ⟨z, z2⟩ => ⟨⟨z, by omega⟩, t, by omega, h1⟩⟩
  by_cases w : i < t
  · rw [h2 i w] at i2; exact absurd i2 (by decide)
  · omega
/-- the sectors of a head, one by one -/
theorem CKD_w72 {K1 : (Nat → Nat) → (Nat → Nat) → (Nat → Int → Int) → (Nat → Option Nat) → Nat → Nat → Prop} {K0 : Int → (Nat → Nat) → (Nat → Nat) → (Nat → Int → Int) → (Nat → Option Nat) → Nat → Nat → Prop} {s : Int} (hM : kc + 128 ≤ MC ∧ ks' + 2112 ≤ MS) (C1 : kdC1 kd an ai mX42_disk mX42_count mX42_runs mX42_isFull mX42_changed x dq dk ru fu ch) (hin : ∀ j : Nat, j < 64 → zb s j = 1 → 2 ≤ j ∧ j < 48)
  (h1 : ∀ kd' an' ai' mB' kc2 ks2, kdK4 kd an ai mX63_bytes kd' an' ai' mB' → ¬ (∀ j, 0 ≤ j → j < 64 → kdBt s j → kdOk dk s j) → kc2 ≤ kc + 128 → ks2 ≤ ks' + 2112 → K1 kd' an' ai' mB' kc2 ks2)
  (h0 : ∀ kd' an' ai' mB' kc2 ks2, kdK4 kd an ai mX63_bytes kd' an' ai' mB' → (∀ j, 0 ≤ j → j < 64 → kdBt s j → kdOk dk s j) → kc2 ≤ kc + 128 → ks2 ≤ ks' + 2112 → K0 (kdAx dk s 64) kd' an' ai' mB' kc2 ks2) :
  ∀ (j b : Nat) (pg left : Int) (kd2 an2 : Nat → Nat) (ai2 : Nat → Int → Int) (mB2 : Nat → Option Nat) (kc2 ks2 : Nat), 64 ≤ b + j → b ≤ 64 → kdK4 kd an ai mX63_bytes kd2 an2 ai2 mB2 → zL left → (∀ j : Nat, j < 64 → (zb left j = 1 ↔ zb s j = 1 ∧ b ≤ j)) → zL pg → (∀ q : Nat, q < 64 → (zb pg q = 1 ↔ ∃ i : Nat, i < b ∧ zb s i = 1 ∧ dk (32 * i + 5) = q)) → (∀ i : Nat, i < b → zb s i = 1 → kdOk dk s i) → kc2 ≤ kc + 2 * b → ks2 ≤ ks' + 33 * b → wKD_X42_whole_72 MC MS K1 K0 x mX42_disk (j + 1) pg (kdAx dk s b) left kd2 an2 ai2 mB2 kc2 ks2 := fun j => by
  have fin : ∀ (b : Nat) (left : Int), b ≤ 64 → left = 0 → (∀ j : Nat, j < 64 → (zb left j = 1 ↔ zb s j = 1 ∧ b ≤ j)) → (∀ i : Nat, i < b → zb s i = 1 → kdOk dk s i) → (∀ j, 0 ≤ j → j < 64 → kdBt s j → kdOk dk s j) ∧ kdAx dk s 64 = kdAx dk s b := fun b left b64 e hb ok => by
    have z : ∀ i : Nat, b ≤ i → i < 64 → zb s i = 0 := fun i i0 i1 => zb_n0 (fun w => by
      have := (hb i i1).2 ⟨w, i0⟩
      rw [e, zb_zero] at this; exact absurd this (by decide))
    refine ⟨fun j j0 j1 bj => ?_, ?_⟩
    · have ej : ((j.toNat : Nat) : Int) = j := by omega
      rw [← ej] at bj ⊢
      rw [kdBt_zb] at bj
      refine ok j.toNat (Classical.byContradiction fun w => ?_) bj
      rw [z j.toNat (by omega) (by omega)] at bj; exact absurd bj (by decide)
    · have := kdAx_skip (dk := dk) (s := s) (b := b) (64 - b) (fun i a c => z i a (by omega))
      rw [show b + (64 - b) = 64 by omega] at this; exact this
  induction j with
  | zero =>
    intro b pg left kd2 an2 ai2 mB2 kc2 ks2 hj b64 K hl hb hp hpg ok b1 b2
    rw [wKD_X42_whole_72]
    have e0 : left = 0 := zb_064 hl (fun k hk => zb_n0 (fun w => by have := ((hb k hk).1 w).2; omega))
    obtain ⟨f1, f2⟩ := fin b left b64 e0 hb ok
    rw [← f2]
    exact ⟨fun _ => h0 _ _ _ _ _ _ K f1 (by omega) (by omega), fun w => absurd e0 w⟩
  | succ j ih =>
    intro b pg left kd2 an2 ai2 mB2 kc2 ks2 hj b64 K hl hb hp hpg ok b1 b2
    rw [wKD_X42_whole_72]
    refine ⟨fun e0 => ?_, fun ne => ⟨by omega, CKD_low hl ne hb (fun t ht bt st low nx => ?_)⟩⟩
    · obtain ⟨f1, f2⟩ := fin b left b64 e0 hb ok
      rw [← f2]
      exact h0 _ _ _ _ _ _ K f1 (by omega) (by omega)
    have tin := hin t ht st
    refine ⟨2, 33, by omega, CKD_read (by decide) (C1.kp K) (by omega) (fun q bq f hq hbq K2 S1 _ => ?_)⟩
    have K3 := K.trans K2
    generalize va_up (va_up kd2 q 3) bq 10 = kd3 at K3 S1 ⊢
    generalize va_up an2 bq 32 = an3 at K3 S1 ⊢
    generalize va_up ai2 bq f = ai3 at K3 S1 ⊢
    generalize va_up mB2 q (some bq) = mB3 at K3 S1 ⊢
    have bad : ¬ kdOk dk s t → ∀ W pg' x7 lf sq, wKD_X42_whole_146 MC MS W K1 pg' x7 lf sq 0 kd3 an3 ai3 mB3 (kc2 + 2) (ks2 + 33) := fun no W pg' x7 lf sq => by
      unfold wKD_X42_whole_146
      exact ⟨fun _ => h1 _ _ _ _ _ _ K3 (fun all => no (all t (by omega) (by omega) (kdBt_zb.2 st))) (by omega) (by omega), fun z => absurd rfl z⟩
    have d4 := (C1.2.2 (32 * (t : Int) + 4) (by omega) (by omega))
    have d5 := (C1.2.2 (32 * (t : Int) + 5) (by omega) (by omega))
    have r4 : 0 ≤ dk (32 * (t : Int) + 4) ∧ dk (32 * (t : Int) + 4) < 256 := by omega
    have r5 : 0 ≤ dk (32 * (t : Int) + 5) ∧ dk (32 * (t : Int) + 5) < 256 := by omega
    have eno : kdNo (fun i => dk (32 * (t : Int) + i)) 0 = kdNo dk (32 * t) := by rw [kdNo_sh, Int.add_zero]
    refine kOn_some ⟨S1.1, by omega, CKD_isRightB S1 (fun w1 => ⟨by omega, CKD_kind S1 (by decide) ⟨fun w2 => bad (fun z => ?_) _ _ _ _ _, fun w2 => ⟨by omega, CKD_kind S1 (by decide) ⟨fun w3 => bad (fun z => ?_) _ _ _ _ _, fun w3 => ⟨by omega, CKD_page5 S1 (by decide) ⟨fun w4 => bad (fun z => ?_) _ _ _ _ _, fun w4 => ⟨by omega, CKD_page5 S1 (by decide) ⟨by omega, fun w5 => ?_, fun w5 => bad (fun z => ?_) _ _ _ _ _⟩⟩⟩⟩⟩⟩⟩⟩) (fun w1 => bad (fun z => ?_) _ _ _ _ _)⟩
    · have := z.2.2.1
      rw [if_pos (by omega)] at w2; omega
    · have := z.2.2.1
      rw [if_pos (by omega)] at w3; omega
    · have := z.2.2.2.1
      omega
    · have k127 : dk (32 * (t : Int) + 4) ≤ 127 := by
        apply Int.not_lt.mp
        intro z
        rw [if_neg (by omega)] at w2; omega
      rw [if_pos k127] at w2 w3
      have zp : ¬ zb pg (dk (32 * (t : Int) + 5)).toNat = 1 := fun z => by unfold zb at z; omega
      have okt : kdOk dk s t := ⟨by omega, by rw [← eno]; exact w1, by omega, by omega, fun i i0 i1 bi eq => by
        have ei : ((i.toNat : Nat) : Int) = i := by omega
        rw [← ei] at bi eq
        rw [kdBt_zb] at bi
        have ib : i.toNat < b := Classical.byContradiction fun w => by
          rw [low i.toNat (by omega) (by omega)] at bi; exact absurd bi (by decide)
        exact zp ((hpg _ (by omega)).2 ⟨i.toNat, ib, bi, by omega⟩)⟩
      unfold wKD_X42_whole_146
      refine ⟨fun z => absurd z (by decide), fun _ => kOn_some ⟨S1.1, by omega, CKD_page5 S1 (by decide) (fun pg2 e2 => ⟨by omega, CKD_number S1 (by decide) (by decide) (fun x7 e7 lf elf => ?_)⟩)⟩⟩
      have eA : kdAx dk s (t + 1) = zxor (kdAx dk s b) (kdNo dk (32 * t)) := by
        rw [kdAx, pif_t (kdBt_zb.2 st)]
        have := kdAx_skip (dk := dk) (s := s) (b := b) (t - b) (fun i a c => low i a (by omega))
        rw [show b + (t - b) = t by omega] at this
        rw [this]
      rw [eno, ← eA] at e7
      rw [e7, elf]
      refine ih (t + 1) pg2 _ kd3 an3 ai3 mB3 (kc2 + 2) (ks2 + 33) (by omega) (by omega) K3 nx.1 nx.2 (by rw [e2]; exact zr_or64 _ _) (fun q' hq' => ?_) (fun i hi si => ?_) (by omega) (by omega)
      · rw [e2]
        show zb (zLor pg (zLshl 1 (dk (32 * (t : Int) + 5)))) q' = 1 ↔ _
        rw [kd_or1 hp (by omega) hq', hpg q' hq']
        refine ⟨fun z => ?_, fun ⟨i, hi, si, z⟩ => ?_⟩
        · rcases z with ⟨i, hi, si, z⟩ | z
          · exact ⟨i, by omega, si, z⟩
          · exact ⟨t, by omega, st, z.symm⟩
        · by_cases z2 : i < b
          · exact Or.inl ⟨i, z2, si, z⟩
          · have : i = t := Classical.byContradiction fun w => by
              rw [low i (by omega) (by omega)] at si; exact absurd si (by decide)
            rw [this] at z
            exact Or.inr z.symm
      · by_cases z2 : i < b
        · exact ok i z2 si
        · have : i = t := Classical.byContradiction fun w => by
            rw [low i (by omega) (by omega)] at si; exact absurd si (by decide)
          rw [this]; exact okt
    · refine w5 ?_
      have z5 : ¬ zb pg (dk (32 * (t : Int) + 5)).toNat = 1 := fun w => by
        obtain ⟨i, hi, si, e⟩ := (hpg _ (by omega)).1 w
        exact z.2.2.2.2 i (by omega) (by omega) (kdBt_zb.2 si) (by omega)
      have := zb_n0 z5
      unfold zb at this; exact this
    · rw [eno] at w1
      exact w1 z.2.1
theorem CKD_whole {post : (Option Nat) → (Nat → Nat) → (Nat → Nat) → (Nat → Int → Int) → (Nat → Int) → (Nat → Int) → (Nat → Option Nat) → Prop} (hM : 131 ≤ MC ∧ 2147 ≤ MS) (hk : 0 ≤ k ∧ k ≤ 1) (C1 : kdC1 kd an ai mX42_disk mX42_count mX42_runs mX42_isFull mX42_changed x dq dk ru fu ch)
  (h0 : ∀ kd' an' ai' mB', kdK4 kd an ai mX63_bytes kd' an' ai' mB' → ¬ kdWh dk k → post none kd' an' ai' mX43_number mX43_sectors mB')
  (h1 : ∀ q kd' an' ai' mB', kdK4 kd an ai mX63_bytes kd' an' ai' mB' → kd' q = 0 → kdWh dk k → post (some q) (va_up kd' q 2) an' ai' (va_up mX43_number q (kdNo dk (32 * k + 16))) (va_up mX43_sectors q (kdWi dk (32 * k + 8))) mB') : wpKD_X42_whole MC MS post kd an ai mX42_disk mX42_count mX43_number mX43_sectors mX63_bytes x k := by
  unfold wpKD_X42_whole
  refine ⟨2, 33, by omega, CKD_read (by decide) C1 (by omega) (fun q bq f hq hbq K2 S1 _ => ?_)⟩
  generalize va_up (va_up kd q 3) bq 10 = kd3 at K2 S1 ⊢
  generalize va_up an bq 32 = an3 at K2 S1 ⊢
  generalize va_up ai bq f = ai3 at K2 S1 ⊢
  generalize va_up mX63_bytes q (some bq) = mB3 at K2 S1 ⊢
  have d4 := (C1.2.2 (32 * k + 4) (by omega) (by omega))
  have r4 : 0 ≤ dk (32 * k + 4) ∧ dk (32 * k + 4) < 256 := by omega
  have eno : kdNo (fun i => dk (32 * k + i)) 0 = kdNo dk (32 * k) := by rw [kdNo_sh, Int.add_zero]
  refine kOn_some ⟨S1.1, by omega, CKD_kind S1 (by decide) ⟨fun w1 => ⟨by omega, CKD_isRightB S1 (fun w2 => ⟨by omega, CKD_wide S1 (by decide) (by decide) ?_⟩) (fun w2 => ⟨by omega, by omega, h0 _ _ _ _ K2 (fun z => w2 ?_)⟩)⟩, fun w1 => ⟨by omega, by omega, h0 _ _ _ _ K2 (fun z => w1 ?_)⟩⟩⟩
  rotate_left
  · rw [eno]; exact z.2.1
  · have := z.1
    rw [if_pos (by omega)]; exact this
  have k9 : dk (32 * k + 4) = 9 := by
    by_cases z : dk (32 * k + 4) ≤ 127
    · rw [if_pos z] at w1; exact w1
    · rw [if_neg z] at w1; omega
  rw [eno] at w2
  rw [kdWi_sh]
  have hs : zL (kdWi dk (32 * k + 8)) := by unfold kdWi; exact zr_or64 _ _
  have eW : kdWh dk k ↔ (∀ j, 0 ≤ j → j < 64 → kdBt (kdWi dk (32 * k + 8)) j → kdOk dk (kdWi dk (32 * k + 8)) j) ∧ kdAx dk (kdWi dk (32 * k + 8)) 64 = kdNo dk (32 * k + 20) := ⟨fun z => z.2.2, fun z => ⟨k9, w2, z⟩⟩
  generalize kdWi dk (32 * k + 8) = s at hs eW h1 ⊢
  rw [C1.2.1.1]
  refine ⟨fun w3 => ⟨fun w4 => absurd w4 (by decide), fun _ => ⟨fun w4 => ?_, fun w4 => ⟨by omega, by omega, h0 _ _ _ _ K2 (fun z => w4 ?_)⟩⟩⟩, fun w3 => ⟨by omega, by omega, h0 _ _ _ _ K2 (fun z => w3 ?_)⟩⟩
  rotate_left
  · rw [kd_hi hs]
    refine fun j j0 j1 => zb_n0 (fun y => ?_)
    have := ((eW.1 z).1 j (by omega) (by omega) (kdBt_zb.2 y)).1
    omega
  · rw [kd_lo]
    refine ⟨zb_n0 (fun y => ?_), zb_n0 (fun y => ?_)⟩
    · have := ((eW.1 z).1 ((0 : Nat) : Int) (by decide) (by decide) (kdBt_zb.2 y)).1
      omega
    · have := ((eW.1 z).1 ((1 : Nat) : Int) (by decide) (by decide) (kdBt_zb.2 y)).1
      omega
  rw [kd_hi hs] at w4
  rw [kd_lo] at w3
  have hin : ∀ j : Nat, j < 64 → zb s j = 1 → 2 ≤ j ∧ j < 48 := fun j hj y => by
    refine ⟨?_, Classical.byContradiction fun w => ?_⟩
    · rcases j with _ | _ | j
      · rw [w3.1] at y; exact absurd y (by decide)
      · rw [w3.2] at y; exact absurd y (by decide)
      · omega
    · rw [w4 j (by omega) hj] at y; exact absurd y (by decide)
  refine ⟨65, CKD_w72 (kc := 0 + 2) (ks' := 0 + 33) (s := s) (by omega) (C1.kp K2) hin (fun kd' an' ai' mB' kc2 ks2 K3 no b1 b2 => ⟨by omega, by omega, h0 _ _ _ _ (K2.trans K3) (fun z => no (eW.1 z).1)⟩) (fun kd' an' ai' mB' kc2 ks2 K3 all b1 b2 => ?_) 64 0 0 s kd3 an3 ai3 mB3 (0 + 2) (0 + 33) (by omega) (by omega) kdK4.rfl hs (fun j hj => ⟨fun z => ⟨z, Nat.zero_le _⟩, fun z => z.1⟩) (by decide) (fun q _ => ⟨fun z => by rw [zb_zero] at z; exact absurd z (by decide), fun ⟨i, hi, _⟩ => absurd hi (by omega)⟩) (fun i hi _ => absurd hi (by omega)) (by omega) (by omega)⟩
  have S2 := S1.kp K3
  have e20 : kdNo (fun i => dk (32 * k + i)) 20 = kdNo dk (32 * k + 20) := kdNo_sh
  have e16 : kdNo (fun i => dk (32 * k + i)) 16 = kdNo dk (32 * k + 16) := kdNo_sh
  refine kOn_some ⟨S2.1, by omega, CKD_number S2 (by decide) (by decide) ⟨fun w5 => ⟨by omega, fun q2 hq2 mN eN mU eU => ⟨by omega, ?_⟩⟩, fun w5 => ⟨by omega, by omega, h0 _ _ _ _ (K2.trans K3) (fun z => w5 ?_)⟩⟩⟩
  rotate_left
  · rw [e20]; exact (eW.1 z).2
  have nq : ∀ r, ¬ kd' r = 0 → ¬ r = q2 := fun r hr z => hr (by rw [z]; exact hq2)
  have S3 : kdSe (va_up kd' q2 2) an' ai' mB' 0 q bq (fun i => dk (32 * k + i)) := ⟨by rw [va_up_ne _ _ (nq _ (by have := S2.1; omega))]; exact S2.1, S2.2.1, by rw [va_up_ne _ _ (nq _ (by have := S2.2.2.1; omega))]; exact S2.2.2.1, S2.2.2.2⟩
  refine CKD_number S3 (by decide) (by decide) ⟨by omega, ?_⟩
  unfold wpKD_X43_init wpKD_J7_init
  intro mN2 eN2 mU2 eU2
  rw [eN, va_up_up, e16] at eN2
  rw [eU, va_up_up] at eU2
  rw [eN2, eU2]
  rw [e20] at w5
  exact ⟨by omega, by omega, h1 q2 _ _ _ _ (K2.trans K3) hq2 (eW.2 ⟨all, w5⟩)⟩
end
