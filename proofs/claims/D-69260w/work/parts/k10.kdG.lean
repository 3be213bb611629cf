/-! KnowDisk, the component: start -/
def kdPL (S : KS) (p : Int → Int) : KS := (KS.mk (S.dk) (S.lt) (S.op) (S.ld) (p) (S.nu) (S.se) (S.ku) (S.ks) (S.tg) (S.by') (S.ru) (S.fu) (S.ch) (S.fi) (S.be) (S.ol) (S.nw) (S.kn) (S.mo))
theorem kdPL_PL {S : KS} {p q : Int → Int} : kdPL (kdPL S p) q = kdPL S q := rfl
theorem kdPL_0 {S : KS} : kdPL S S.pl = S := rfl
theorem kdPL_pl {S : KS} {p : Int → Int} : (kdPL S p).pl = p := rfl
theorem kdPL_dk {S : KS} {p : Int → Int} : (kdPL S p).dk = S.dk := rfl
theorem kdPs_skip {dk : Int → Int} {s : Int} {pl : Int → Int} {b : Nat} : ∀ n : Nat, (∀ i : Nat, b ≤ i → i < b + n → zb s i = 0) → kdPs dk s pl (b + n) = kdPs dk s pl b
  | 0, _ => rfl
  | n + 1, h => by
    have ih := kdPs_skip (dk := dk) (pl := pl) n (fun i a c => h i a (by omega))
    rw [show b + (n + 1) = (b + n) + 1 by omega, kdPs, pif_f, ih]
    intro z
    rw [kdBt_zb, h (b + n) (by omega) (by omega)] at z
    exact absurd z (by decide)
theorem kdSt_e {S : KS} {nn ss : Int} : ((KS.mk ((kdBg S nn ss).dk) ((kdBg S nn ss).lt) ((kdBg S nn ss).op) ((kdBg S nn ss).ld) ((kdBg S nn ss).pl) ((kdBg S nn ss).nu) ((kdBg S nn ss).se) ((kdBg S nn ss).ku) ((kdBg S nn ss).ks) ((kdBg S nn ss).tg) ((kdBg S nn ss).by') (1) ((kdBg S nn ss).fu) ((kdBg S nn ss).ch) ((kdBg S nn ss).fi) ((kdBg S nn ss).be) ((kdBg S nn ss).ol) ((kdBg S nn ss).nw) ((kdBg S nn ss).kn) ((kdBg S nn ss).mo)) : KS).ol = 0 ∧ ((KS.mk ((kdBg S nn ss).dk) ((kdBg S nn ss).lt) ((kdBg S nn ss).op) ((kdBg S nn ss).ld) ((kdBg S nn ss).pl) ((kdBg S nn ss).nu) ((kdBg S nn ss).se) ((kdBg S nn ss).ku) ((kdBg S nn ss).ks) ((kdBg S nn ss).tg) ((kdBg S nn ss).by') (1) ((kdBg S nn ss).fu) ((kdBg S nn ss).ch) ((kdBg S nn ss).fi) ((kdBg S nn ss).be) ((kdBg S nn ss).ol) ((kdBg S nn ss).nw) ((kdBg S nn ss).kn) ((kdBg S nn ss).mo)) : KS).nw = 0 ∧ ((KS.mk ((kdBg S nn ss).dk) ((kdBg S nn ss).lt) ((kdBg S nn ss).op) ((kdBg S nn ss).ld) ((kdBg S nn ss).pl) ((kdBg S nn ss).nu) ((kdBg S nn ss).se) ((kdBg S nn ss).ku) ((kdBg S nn ss).ks) ((kdBg S nn ss).tg) ((kdBg S nn ss).by') (1) ((kdBg S nn ss).fu) ((kdBg S nn ss).ch) ((kdBg S nn ss).fi) ((kdBg S nn ss).be) ((kdBg S nn ss).ol) ((kdBg S nn ss).nw) ((kdBg S nn ss).kn) ((kdBg S nn ss).mo)) : KS).nu 0 = nn ∧ ((KS.mk ((kdBg S nn ss).dk) ((kdBg S nn ss).lt) ((kdBg S nn ss).op) ((kdBg S nn ss).ld) ((kdBg S nn ss).pl) ((kdBg S nn ss).nu) ((kdBg S nn ss).se) ((kdBg S nn ss).ku) ((kdBg S nn ss).ks) ((kdBg S nn ss).tg) ((kdBg S nn ss).by') (1) ((kdBg S nn ss).fu) ((kdBg S nn ss).ch) ((kdBg S nn ss).fi) ((kdBg S nn ss).be) ((kdBg S nn ss).ol) ((kdBg S nn ss).nw) ((kdBg S nn ss).kn) ((kdBg S nn ss).mo)) : KS).se 0 = ss ∧ ((KS.mk ((kdBg S nn ss).dk) ((kdBg S nn ss).lt) ((kdBg S nn ss).op) ((kdBg S nn ss).ld) ((kdBg S nn ss).pl) ((kdBg S nn ss).nu) ((kdBg S nn ss).se) ((kdBg S nn ss).ku) ((kdBg S nn ss).ks) ((kdBg S nn ss).tg) ((kdBg S nn ss).by') (1) ((kdBg S nn ss).fu) ((kdBg S nn ss).ch) ((kdBg S nn ss).fi) ((kdBg S nn ss).be) ((kdBg S nn ss).ol) ((kdBg S nn ss).nw) ((kdBg S nn ss).kn) ((kdBg S nn ss).mo)) : KS).pl = kdFl S.pl 30 (-1) ∧ ((KS.mk ((kdBg S nn ss).dk) ((kdBg S nn ss).lt) ((kdBg S nn ss).op) ((kdBg S nn ss).ld) ((kdBg S nn ss).pl) ((kdBg S nn ss).nu) ((kdBg S nn ss).se) ((kdBg S nn ss).ku) ((kdBg S nn ss).ks) ((kdBg S nn ss).tg) ((kdBg S nn ss).by') (1) ((kdBg S nn ss).fu) ((kdBg S nn ss).ch) ((kdBg S nn ss).fi) ((kdBg S nn ss).be) ((kdBg S nn ss).ol) ((kdBg S nn ss).nw) ((kdBg S nn ss).kn) ((kdBg S nn ss).mo)) : KS).dk = S.dk := by
  simp only [kdBg, KS.mq_dk, KS.mq_lt, KS.mq_op, KS.mq_ld, KS.mq_pl, KS.mq_nu, KS.mq_se, KS.mq_ku, KS.mq_ks, KS.mq_tg, KS.mq_by, KS.mq_ru, KS.mq_fu, KS.mq_ch, KS.mq_fi, KS.mq_be, KS.mq_ol, KS.mq_nw, KS.mq_kn, KS.mq_mo]
  exact ⟨trivial, trivial, updI_s, updI_s, trivial, trivial⟩
/-- start: answer and state -/
noncomputable def kdSt2 (S : KS) : Int × KS := if ¬ S.ru = 0 then (-3, S) else (kdHn S.dk (kdHh S.dk), kdPL (KS.mk ((kdBg S (kdHn S.dk (kdHh S.dk)) (kdHw S.dk (kdHh S.dk))).dk) ((kdBg S (kdHn S.dk (kdHh S.dk)) (kdHw S.dk (kdHh S.dk))).lt) ((kdBg S (kdHn S.dk (kdHh S.dk)) (kdHw S.dk (kdHh S.dk))).op) ((kdBg S (kdHn S.dk (kdHh S.dk)) (kdHw S.dk (kdHh S.dk))).ld) ((kdBg S (kdHn S.dk (kdHh S.dk)) (kdHw S.dk (kdHh S.dk))).pl) ((kdBg S (kdHn S.dk (kdHh S.dk)) (kdHw S.dk (kdHh S.dk))).nu) ((kdBg S (kdHn S.dk (kdHh S.dk)) (kdHw S.dk (kdHh S.dk))).se) ((kdBg S (kdHn S.dk (kdHh S.dk)) (kdHw S.dk (kdHh S.dk))).ku) ((kdBg S (kdHn S.dk (kdHh S.dk)) (kdHw S.dk (kdHh S.dk))).ks) ((kdBg S (kdHn S.dk (kdHh S.dk)) (kdHw S.dk (kdHh S.dk))).tg) ((kdBg S (kdHn S.dk (kdHh S.dk)) (kdHw S.dk (kdHh S.dk))).by') (1) ((kdBg S (kdHn S.dk (kdHh S.dk)) (kdHw S.dk (kdHh S.dk))).fu) ((kdBg S (kdHn S.dk (kdHh S.dk)) (kdHw S.dk (kdHh S.dk))).ch) ((kdBg S (kdHn S.dk (kdHh S.dk)) (kdHw S.dk (kdHh S.dk))).fi) ((kdBg S (kdHn S.dk (kdHh S.dk)) (kdHw S.dk (kdHh S.dk))).be) ((kdBg S (kdHn S.dk (kdHh S.dk)) (kdHw S.dk (kdHh S.dk))).ol) ((kdBg S (kdHn S.dk (kdHh S.dk)) (kdHw S.dk (kdHh S.dk))).nw) ((kdBg S (kdHn S.dk (kdHh S.dk)) (kdHw S.dk (kdHh S.dk))).kn) ((kdBg S (kdHn S.dk (kdHh S.dk)) (kdHw S.dk (kdHh S.dk))).mo)) (kdPs S.dk (kdHw S.dk (kdHh S.dk)) (kdFl S.pl 30 (-1)) 64))
section
variable {kd : Nat → Nat} {an : Nat → Nat} {ai : Nat → Int → Int} {al : Nat → Int → Int} {ar : Nat → Int → Option Nat} {mX42_disk : Nat → Option Nat} {mX42_count : Nat → Int} {mX42_runs : Nat → Int} {mX42_isFull : Nat → Int} {mX42_places : Nat → Option Nat} {mX42_laid : Nat → Option Nat} {mX42_changed : Nat → Int} {mX42_waiting : Nat → Option Nat} {mX42_states : Nat → Option Nat} {mX42_kept : Nat → Option Nat} {mX43_number : Nat → Int} {mX43_sectors : Nat → Int} {mX63_bytes : Nat → Option Nat} {mX64_to : Nat → Int} {mX64_sector : Nat → Option Nat} {mJ1_modCount : Nat → Int} {mJ2_elementData : Nat → Option Nat} {mJ2_size : Nat → Int} {mJ5_elements : Nat → Option Nat} {mJ5_head : Nat → Int} {mJ5_tail : Nat → Int} {mJ22_cursor : Nat → Int} {mJ22_remaining : Nat → Int} {mJ22_lastRet : Nat → Int} {mJ22_this_0 : Nat → Option Nat} {mJ23_cursor : Nat → Int} {mJ23_lastRet : Nat → Int} {mJ23_expectedModCount : Nat → Int} {mJ23_this_0 : Nat → Option Nat} {sa : Nat → Nat} {d e q x l dq pq lq d1 e1 d2 e2 e3 s b : Nat} {cap hd n i c1 h1 c2 h2 : Int} {el f ls lb ws wb w1 w2 w3 w : Int → Nat} {MC MS kc ks' : Nat} {A B : Prop} {dk op lt ld pl tg by' nu se ku ks : Int → Int} {fi be ol nw kn k p v ru fu ch lo : Int} {fn : Int → Int} {P : Nat → Prop} {kd' an' : Nat → Nat} {ai' : Nat → Int → Int} {ar' : Nat → Int → Option Nat} {mB' mS' mE' : Nat → Option Nat} {mO' mN' mU' mH' mT' : Nat → Int} {S : KS} {a to fr nr nn ss keep tear : Int} {src op' ld' : Int → Int} {e' sp wq : Nat} {Q Qr Qd : Nat → Prop}
theorem kdOK.run (O : kdOK kd an ai al ar mX42_disk mX42_count mX42_runs mX42_isFull mX42_places mX42_laid mX42_changed mX42_waiting mX42_states mX42_kept mX43_number mX43_sectors mX63_bytes mX64_to mX64_sector mJ1_modCount mJ2_elementData mJ2_size mJ5_elements mJ5_head mJ5_tail mJ22_cursor mJ22_remaining mJ22_lastRet mJ22_this_0 mJ23_cursor mJ23_lastRet mJ23_expectedModCount mJ23_this_0 sa x S) : kdOK kd an ai al ar mX42_disk mX42_count (va_up mX42_runs x v) mX42_isFull mX42_places mX42_laid mX42_changed mX42_waiting mX42_states mX42_kept mX43_number mX43_sectors mX63_bytes mX64_to mX64_sector mJ1_modCount mJ2_elementData mJ2_size mJ5_elements mJ5_head mJ5_tail mJ22_cursor mJ22_remaining mJ22_lastRet mJ22_this_0 mJ23_cursor mJ23_lastRet mJ23_expectedModCount mJ23_this_0 sa x (KS.mk (S.dk) (S.lt) (S.op) (S.ld) (S.pl) (S.nu) (S.se) (S.ku) (S.ks) (S.tg) (S.by') (v) (S.fu) (S.ch) (S.fi) (S.be) (S.ol) (S.nw) (S.kn) (S.mo)) := ⟨O.1, O.2.1, O.2.2.ru'⟩
theorem kdOK.new2 {A B : Int} (O : kdOK kd an ai al ar mX42_disk mX42_count mX42_runs mX42_isFull mX42_places mX42_laid mX42_changed mX42_waiting mX42_states mX42_kept mX43_number mX43_sectors mX63_bytes mX64_to mX64_sector mJ1_modCount mJ2_elementData mJ2_size mJ5_elements mJ5_head mJ5_tail mJ22_cursor mJ22_remaining mJ22_lastRet mJ22_this_0 mJ23_cursor mJ23_lastRet mJ23_expectedModCount mJ23_this_0 sa x S) (hq : kd q = 0) : kdOK (va_up kd q 2) an ai al ar mX42_disk mX42_count mX42_runs mX42_isFull mX42_places mX42_laid mX42_changed mX42_waiting mX42_states mX42_kept (va_up mX43_number q A) (va_up mX43_sectors q B) mX63_bytes mX64_to mX64_sector mJ1_modCount mJ2_elementData mJ2_size mJ5_elements mJ5_head mJ5_tail mJ22_cursor mJ22_remaining mJ22_lastRet mJ22_this_0 mJ23_cursor mJ23_lastRet mJ23_expectedModCount mJ23_this_0 sa x S := by
  have K : kdKx (fun _ => False) (fun _ => False) (fun _ => False) kd an ai ar mX63_bytes mX64_to mX64_sector mX43_number mX43_sectors mJ5_elements mJ5_head mJ5_tail (va_up kd q 2) an ai ar mX63_bytes mX64_to mX64_sector (va_up mX43_number q A) (va_up mX43_sectors q B) mJ5_elements mJ5_head mJ5_tail := fun r hr => by
    have n1 : ¬ r = q := fun z => hr (by rw [z]; exact hq)
    exact ⟨⟨va_up_ne _ _ n1, rfl, rfl⟩, ⟨rfl, rfl⟩, ⟨va_up_ne _ _ n1, va_up_ne _ _ n1⟩, fun _ => rfl, fun _ => rfl, fun _ => ⟨rfl, rfl, rfl⟩⟩
  exact ⟨O.1, O.2.1, O.2.2.kx0 K⟩
theorem kdOK.place {t : Int} (O : kdOK kd an ai al ar mX42_disk mX42_count mX42_runs mX42_isFull mX42_places mX42_laid mX42_changed mX42_waiting mX42_states mX42_kept mX43_number mX43_sectors mX63_bytes mX64_to mX64_sector mJ1_modCount mJ2_elementData mJ2_size mJ5_elements mJ5_head mJ5_tail mJ22_cursor mJ22_remaining mJ22_lastRet mJ22_this_0 mJ23_cursor mJ23_lastRet mJ23_expectedModCount mJ23_this_0 sa x S) (hp : 0 ≤ p ∧ p < 30) (ht : 2 ≤ t ∧ t < 48) : ∃ pq, mX42_places x = some pq ∧ kd pq = 9 ∧ an pq = 30 ∧ kdOK kd an (va_up ai pq (updI (ai pq) p t)) al ar mX42_disk mX42_count mX42_runs mX42_isFull mX42_places mX42_laid mX42_changed mX42_waiting mX42_states mX42_kept mX43_number mX43_sectors mX63_bytes mX64_to mX64_sector mJ1_modCount mJ2_elementData mJ2_size mJ5_elements mJ5_head mJ5_tail mJ22_cursor mJ22_remaining mJ22_lastRet mJ22_this_0 mJ23_cursor mJ23_lastRet mJ23_expectedModCount mJ23_this_0 sa x (kdPL S (updI S.pl p t)) := by
  obtain ⟨Rg, Lt, dq, pq, lq, ls, lb, d1, e1, c1, h1, w1, ws, wb, d2, e2, c2, h2, w2, l, e3, w3, C1, C2, C3, C4, C5, C6, C7, D1, D2, Mo⟩ := O
  have kpq := C2.1.2.1
  have klq := C3.1.2.1
  have kdq := C1.1.2.2.1
  have K : kdKx (fun r => r = pq) (fun _ => False) (fun _ => False) kd an ai ar mX63_bytes mX64_to mX64_sector mX43_number mX43_sectors mJ5_elements mJ5_head mJ5_tail kd an (va_up ai pq (updI (ai pq) p t)) ar mX63_bytes mX64_to mX64_sector mX43_number mX43_sectors mJ5_elements mJ5_head mJ5_tail := fun r hr => ⟨⟨rfl, rfl, rfl⟩, ⟨rfl, rfl⟩, ⟨rfl, rfl⟩, fun z => va_up_ne _ _ z, fun _ => rfl, fun _ => ⟨rfl, rfl, rfl⟩⟩
  refine ⟨pq, C2.1.1, kpq, C2.1.2.2, ⟨fun p' p0 p1 => ?_, Rg.2⟩, Lt, dq, pq, lq, ls, lb, d1, e1, c1, h1, w1, ws, wb, d2, e2, c2, h2, w2, l, e3, w3, C1.kx K (fun z => ?_), ⟨C2.1, fun p' p0 p1 => ?_⟩, C3.kx K id (fun k k0 k1 kl z => ?_), C4.kx K id id (fun i i0 i1 z => ?_), C5.kx K id id, C6.kx K (fun _ => id), C7, D1, D2, Mo⟩
  · show updI S.pl p t p' = -1 ∨ (2 ≤ updI S.pl p t p' ∧ updI S.pl p t p' < 48)
    by_cases z : p' = p
    · rw [z, updI_s]; exact Or.inr ht
    · rw [updI_n z]; exact Rg.1 p' p0 p1
  · rw [z] at kdq; omega
  · rw [va_up_self]
    show _ = updI S.pl p t p'
    by_cases z : p' = p
    · rw [z, updI_s, updI_s]
    · rw [updI_n z, updI_n z]; exact C2.2 p' p0 p1
  · have := (C3.2.2 k k0 k1 kl).2.2.1
    rw [z] at this; omega
  · have := (C4.2.2 i i0 i1).2.2.2.1
    rw [z] at this; omega
theorem CKD_s86 {K : (Nat → Nat) → (Nat → Nat) → (Nat → Int → Int) → (Nat → Option Nat) → Nat → Nat → Prop} {s : Int} (hM : kc + 128 ≤ MC ∧ ks' + 2112 ≤ MS) (hs : zL s) (hin : ∀ j : Nat, j < 64 → zb s j = 1 → (2 ≤ j ∧ j < 48) ∧ 0 ≤ S.dk (32 * j + 5) ∧ S.dk (32 * j + 5) < 30)
  (hK : ∀ (kd an : Nat → Nat) (ai : Nat → Int → Int) (mX63_bytes : Nat → Option Nat) (kc2 ks2 : Nat), kdOK kd an ai al ar mX42_disk mX42_count mX42_runs mX42_isFull mX42_places mX42_laid mX42_changed mX42_waiting mX42_states mX42_kept mX43_number mX43_sectors mX63_bytes mX64_to mX64_sector mJ1_modCount mJ2_elementData mJ2_size mJ5_elements mJ5_head mJ5_tail mJ22_cursor mJ22_remaining mJ22_lastRet mJ22_this_0 mJ23_cursor mJ23_lastRet mJ23_expectedModCount mJ23_this_0 sa x (kdPL S (kdPs S.dk s S.pl 64)) → kc2 ≤ kc + 128 → ks2 ≤ ks' + 2112 → K kd an ai mX63_bytes kc2 ks2) :
  ∀ (j b : Nat) (left : Int) (kd an : Nat → Nat) (ai : Nat → Int → Int) (mX63_bytes : Nat → Option Nat) (kc2 ks2 : Nat), 64 ≤ b + j → b ≤ 64 → kdOK kd an ai al ar mX42_disk mX42_count mX42_runs mX42_isFull mX42_places mX42_laid mX42_changed mX42_waiting mX42_states mX42_kept mX43_number mX43_sectors mX63_bytes mX64_to mX64_sector mJ1_modCount mJ2_elementData mJ2_size mJ5_elements mJ5_head mJ5_tail mJ22_cursor mJ22_remaining mJ22_lastRet mJ22_this_0 mJ23_cursor mJ23_lastRet mJ23_expectedModCount mJ23_this_0 sa x (kdPL S (kdPs S.dk s S.pl b)) → zL left → (∀ j : Nat, j < 64 → (zb left j = 1 ↔ zb s j = 1 ∧ b ≤ j)) → kc2 ≤ kc + 2 * b → ks2 ≤ ks' + 33 * b → wKD_X42_start_86 MC MS K x mX42_disk mX42_places (j + 1) left kd an ai mX63_bytes kc2 ks2 := fun j => by
  have fin : ∀ (b : Nat) (left : Int), b ≤ 64 → left = 0 → (∀ j : Nat, j < 64 → (zb left j = 1 ↔ zb s j = 1 ∧ b ≤ j)) → kdPs S.dk s S.pl 64 = kdPs S.dk s S.pl b := fun b left b64 e hb => by
    have z : ∀ i : Nat, b ≤ i → i < 64 → zb s i = 0 := fun i i0 i1 => zb_n0 (fun w => by
      have := (hb i i1).2 ⟨w, i0⟩
      rw [e, zb_zero] at this; exact absurd this (by decide))
    have := kdPs_skip (dk := S.dk) (s := s) (pl := S.pl) (b := b) (64 - b) (fun i a c => z i a (by omega))
    rw [show b + (64 - b) = 64 by omega] at this; exact this
  induction j with
  | zero =>
    intro b left kd an ai mX63_bytes kc2 ks2 hj b64 O hl hb b1 b2
    rw [wKD_X42_start_86]
    have e0 : left = 0 := zb_064 hl (fun k hk => zb_n0 (fun w => by have := ((hb k hk).1 w).2; omega))
    have f := fin b left b64 e0 hb
    rw [← f] at O
    exact ⟨fun _ => hK _ _ _ _ _ _ O (by omega) (by omega), fun w => absurd e0 w⟩
  | succ j ih =>
    intro b left kd an ai mX63_bytes kc2 ks2 hj b64 O hl hb b1 b2
    rw [wKD_X42_start_86]
    refine ⟨fun e0 => ?_, fun ne => ⟨by omega, CKD_low hl ne hb (fun t ht bt st low nx => ?_)⟩⟩
    · have f := fin b left b64 e0 hb
      rw [← f] at O
      exact hK _ _ _ _ _ _ O (by omega) (by omega)
    obtain ⟨tin, pin⟩ := hin t ht st
    have O0 := O
    obtain ⟨Rg, Lt, dq, pq, lq, ls, lb, d1, e1, c1, h1, w1, ws, wb, d2, e2, c2, h2, w2, l, e3, w3, C1, C2, C3, C4, C5, C6, C7, D1, D2, Mo⟩ := O
    refine ⟨2, 33, by omega, CKD_read (by decide) C1 (by omega) (fun q bq f hq hbq K2 S1 _ => ?_)⟩
    generalize va_up (va_up kd q 3) bq 10 = kd3 at K2 S1 ⊢
    generalize va_up an bq 32 = an3 at K2 S1 ⊢
    generalize va_up ai bq f = ai3 at K2 S1 ⊢
    generalize va_up mX63_bytes q (some bq) = mB3 at K2 S1 ⊢
    have O1 := O0.kp (J1 := mJ22_cursor) (J2 := mJ22_remaining) (J3 := mJ22_lastRet) (J4 := mJ22_this_0) (J5 := mJ23_cursor) (J6 := mJ23_lastRet) (J7 := mJ23_expectedModCount) (J8 := mJ23_this_0) K2
    refine kOn_some ⟨S1.1, by omega, CKD_page5 S1 (by decide) ?_⟩
    show kOn (mX42_places x) _
    obtain ⟨pq', e1', e2', e3', O2⟩ := O1.place (p := S.dk (32 * (t : Int) + 5)) (t := (t : Int)) pin (by omega)
    refine kOn_of e1' ⟨e2', ?_, fun ai4 ea lf elf => ?_⟩
    · show 0 ≤ S.dk (32 * (t : Int) + 5) ∧ S.dk (32 * (t : Int) + 5) < (an3 pq' : Int)
      rw [e3']; omega
    have eP : kdPs S.dk s S.pl (t + 1) = updI (kdPs S.dk s S.pl b) (S.dk (32 * (t : Int) + 5)) t := by
      rw [kdPs, pif_t (kdBt_zb.2 st)]
      have := kdPs_skip (dk := S.dk) (s := s) (pl := S.pl) (b := b) (t - b) (fun i a c => low i a (by omega))
      rw [show b + (t - b) = t by omega] at this
      rw [this]
    rw [kdPL_pl, kdPL_PL, ← eP] at O2
    have ea' : ai4 = va_up ai3 pq' (updI (ai3 pq') (S.dk (32 * (t : Int) + 5)) t) := ea
    rw [elf, ea']
    exact ih (t + 1) _ kd3 an3 _ mB3 (kc2 + 2) (ks2 + 33) (by omega) (by omega) O2 nx.1 nx.2 (by omega) (by omega)
theorem CKD_s50 {post : Int → (Nat → Nat) → (Nat → Nat) → (Nat → Int → Int) → (Nat → Int → Option Nat) → (Nat → Int) → (Nat → Int) → (Nat → Int) → (Nat → Int) → (Nat → Option Nat) → (Nat → Int) → (Nat → Int) → (Nat → Option Nat) → (Nat → Int) → (Nat → Int) → Prop} {y0 : Option Nat} {h : Int} (hM : kc + 132 ≤ MC ∧ ks' + 2130 ≤ MS) (O : kdOK kd an ai al ar mX42_disk mX42_count mX42_runs mX42_isFull mX42_places mX42_laid mX42_changed mX42_waiting mX42_states mX42_kept mX43_number mX43_sectors mX63_bytes mX64_to mX64_sector mJ1_modCount mJ2_elementData mJ2_size mJ5_elements mJ5_head mJ5_tail mJ22_cursor mJ22_remaining mJ22_lastRet mJ22_this_0 mJ23_cursor mJ23_lastRet mJ23_expectedModCount mJ23_this_0 sa x S) (hmo : S.mo < 90000) (hh : (y0 = none ∧ h = -1) ∨ ∃ q, y0 = some q ∧ kd q = 2 ∧ mX43_number q = kdHn S.dk h ∧ mX43_sectors q = kdHw S.dk h) (hw : h = -1 ∨ kdWh S.dk h) (h01 : h = -1 ∨ h = 0 ∨ h = 1) (H : ∀ kd' an' ai' ar' R' G' mN' mU' mB' M' Z' mE' mH' mT', kdOK (kd') (an') (ai') al (ar') mX42_disk mX42_count (R') mX42_isFull mX42_places mX42_laid (G') mX42_waiting mX42_states mX42_kept (mN') (mU') (mB') mX64_to mX64_sector (M') mJ2_elementData (Z') (mE') (mH') (mT') mJ22_cursor mJ22_remaining mJ22_lastRet mJ22_this_0 mJ23_cursor mJ23_lastRet mJ23_expectedModCount mJ23_this_0 sa x (kdPL (KS.mk ((kdBg S (kdHn S.dk h) (kdHw S.dk h)).dk) ((kdBg S (kdHn S.dk h) (kdHw S.dk h)).lt) ((kdBg S (kdHn S.dk h) (kdHw S.dk h)).op) ((kdBg S (kdHn S.dk h) (kdHw S.dk h)).ld) ((kdBg S (kdHn S.dk h) (kdHw S.dk h)).pl) ((kdBg S (kdHn S.dk h) (kdHw S.dk h)).nu) ((kdBg S (kdHn S.dk h) (kdHw S.dk h)).se) ((kdBg S (kdHn S.dk h) (kdHw S.dk h)).ku) ((kdBg S (kdHn S.dk h) (kdHw S.dk h)).ks) ((kdBg S (kdHn S.dk h) (kdHw S.dk h)).tg) ((kdBg S (kdHn S.dk h) (kdHw S.dk h)).by') (1) ((kdBg S (kdHn S.dk h) (kdHw S.dk h)).fu) ((kdBg S (kdHn S.dk h) (kdHw S.dk h)).ch) ((kdBg S (kdHn S.dk h) (kdHw S.dk h)).fi) ((kdBg S (kdHn S.dk h) (kdHw S.dk h)).be) ((kdBg S (kdHn S.dk h) (kdHw S.dk h)).ol) ((kdBg S (kdHn S.dk h) (kdHw S.dk h)).nw) ((kdBg S (kdHn S.dk h) (kdHw S.dk h)).kn) ((kdBg S (kdHn S.dk h) (kdHw S.dk h)).mo)) (kdPs S.dk (kdHw S.dk h) (kdFl S.pl 30 (-1)) 64)) → post (kdHn S.dk h) kd' an' ai' ar' R' G' mN' mU' mB' M' Z' mE' mH' mT') : wKD_X42_start_50 MC MS post x y0 kd an ai ar mX42_disk mX42_runs mX42_places mX42_laid mX42_changed mX42_waiting mX42_states mX42_kept mX43_number mX43_sectors mX63_bytes mJ1_modCount mJ2_elementData mJ2_size mJ5_elements mJ5_head mJ5_tail sa kc (ks') := by
  have hk4 : S.kn ≤ 4 := O.1.2.2.2.2.2.2.2
  have hz : zL (kdHw S.dk h) := by
    unfold kdHw
    split
    · decide
    · unfold kdWi; exact zr_or64 _ _
  have hin : ∀ j : Nat, j < 64 → zb (kdHw S.dk h) j = 1 → (2 ≤ j ∧ j < 48) ∧ 0 ≤ S.dk (32 * j + 5) ∧ S.dk (32 * j + 5) < 30 := fun j hj bj => by
    rcases hw with e | e
    · rw [e, show kdHw S.dk (-1) = 0 from rfl, zb_zero] at bj
      exact absurd bj (by decide)
    · have hne : ¬ h = -1 := fun z => by
        rw [z, show kdHw S.dk (-1) = 0 from rfl, zb_zero] at bj
        exact absurd bj (by decide)
      unfold kdHw at bj
      rw [if_neg hne] at bj
      have ok := e.2.2.1 j (by omega) (by omega) (kdBt_zb.2 bj)
      have o1 := ok.1
      have o2 := ok.2.2.2.1
      obtain ⟨Rg, Lt, dq, pq, lq, ls, lb, d1, e1, c1, h1, w1, ws, wb, d2, e2, c2, h2, w2, l, e3, w3, C1, C2, C3, C4, C5, C6, C7, D1, D2, Mo⟩ := O
      have d5 := (C1.2.2 (32 * (j : Int) + 5) (by omega) (by omega))
      exact ⟨by omega, by omega, o2⟩
  unfold wKD_X42_start_50
  rcases hh with ⟨ey, eh⟩ | ⟨q, ey, k2, en, es⟩
  · refine ⟨fun _ => ⟨by omega, fun q hq mN eN mU eU => ⟨by omega, ?_⟩⟩, fun b eb => by rw [ey] at eb; exact (nomatch eb)⟩
    unfold wpKD_X43_init wpKD_J7_init
    intro mN2 eN2 mU2 eU2
    rw [eN, va_up_up] at eN2
    rw [eU, va_up_up] at eU2
    have hn0 : kdHn S.dk h = 0 := by rw [eh]; rfl
    have hw0 : kdHw S.dk h = 0 := by rw [eh]; rfl
    have O4 := O.new2 (A := kdHn S.dk h) (B := kdHw S.dk h) hq
    rw [← hn0] at eN2
    rw [← hw0] at eU2
    rw [eN2, eU2]
    generalize kdHn S.dk h = nh at H O4
    generalize kdHw S.dk h = wh at H O4 hz hin
    refine ⟨1, 10, by omega, CKD_begin (kd := va_up kd q 2) (an := an) (ai := ai) (al := al) (ar := ar) (mX42_disk := mX42_disk) (mX42_count := mX42_count) (mX42_runs := mX42_runs) (mX42_isFull := mX42_isFull) (mX42_places := mX42_places) (mX42_laid := mX42_laid) (mX42_changed := mX42_changed) (mX42_waiting := mX42_waiting) (mX42_states := mX42_states) (mX42_kept := mX42_kept) (mX43_number := va_up mX43_number q nh) (mX43_sectors := va_up mX43_sectors q wh) (mX63_bytes := mX63_bytes) (mX64_to := mX64_to) (mX64_sector := mX64_sector) (mJ1_modCount := mJ1_modCount) (mJ2_elementData := mJ2_elementData) (mJ2_size := mJ2_size) (mJ5_elements := mJ5_elements) (mJ5_head := mJ5_head) (mJ5_tail := mJ5_tail) (mJ22_cursor := mJ22_cursor) (mJ22_remaining := mJ22_remaining) (mJ22_lastRet := mJ22_lastRet) (mJ22_this_0 := mJ22_this_0) (mJ23_cursor := mJ23_cursor) (mJ23_lastRet := mJ23_lastRet) (mJ23_expectedModCount := mJ23_expectedModCount) (mJ23_this_0 := mJ23_this_0) (sa := sa) (S := S) (nn := nh) (ss := wh) (by decide) hmo O4.2.2 ⟨va_up_self _ _ _, va_up_self _ _ _, va_up_self _ _ _⟩ hz hk4 (fun kd6 an6 ai6 ar6 G6 M6 Z6 E6 H6 T6 O6 _ R' eR => ⟨by omega, ?_⟩)⟩
    have O7 := kdOK.run (v := 1) O6
    rw [eR]
    have hV := kdSt_e (S := S) (nn := nh) (ss := wh)
    obtain ⟨V, eV⟩ : ∃ V, V = (KS.mk ((kdBg S (nh) (wh)).dk) ((kdBg S (nh) (wh)).lt) ((kdBg S (nh) (wh)).op) ((kdBg S (nh) (wh)).ld) ((kdBg S (nh) (wh)).pl) ((kdBg S (nh) (wh)).nu) ((kdBg S (nh) (wh)).se) ((kdBg S (nh) (wh)).ku) ((kdBg S (nh) (wh)).ks) ((kdBg S (nh) (wh)).tg) ((kdBg S (nh) (wh)).by') (1) ((kdBg S (nh) (wh)).fu) ((kdBg S (nh) (wh)).ch) ((kdBg S (nh) (wh)).fi) ((kdBg S (nh) (wh)).be) ((kdBg S (nh) (wh)).ol) ((kdBg S (nh) (wh)).nw) ((kdBg S (nh) (wh)).kn) ((kdBg S (nh) (wh)).mo)) := ⟨_, rfl⟩
    rw [← eV] at O7 H hV
    obtain ⟨v1, v2, v3, v4, v5, v6⟩ := hV
    have O8 := O7
    obtain ⟨_, _, _, _, _, _, _, _, _, _, _, _, _, _, d25, e25, c25, h25, w25, _, _, _, _, _, _, _, A5, _⟩ := O7
    rw [v1, v2] at A5
    obtain ⟨u1, u2, u3⟩ := A5.2.2 (0 - 0) (by decide) (by decide)
    rw [show (0 : Int) + (0 - 0) = 0 by decide, v3] at u2
    rw [show (0 : Int) + (0 - 0) = 0 by decide, v4] at u3
    refine CKD_latest A5 (by decide) (kOn_some ⟨u1, by omega, ?_⟩)
    unfold wpKD_X43_sectors
    rw [u3]
    refine ⟨65, CKD_s86 (al := al) (ar := ar6) (mX42_disk := mX42_disk) (mX42_count := mX42_count) (mX42_runs := va_up mX42_runs x 1) (mX42_isFull := mX42_isFull) (mX42_places := mX42_places) (mX42_laid := mX42_laid) (mX42_changed := G6) (mX42_waiting := mX42_waiting) (mX42_states := mX42_states) (mX42_kept := mX42_kept) (mX43_number := va_up mX43_number q nh) (mX43_sectors := va_up mX43_sectors q wh) (mX64_to := mX64_to) (mX64_sector := mX64_sector) (mJ1_modCount := M6) (mJ2_elementData := mJ2_elementData) (mJ2_size := Z6) (mJ5_elements := E6) (mJ5_head := H6) (mJ5_tail := T6) (mJ22_cursor := mJ22_cursor) (mJ22_remaining := mJ22_remaining) (mJ22_lastRet := mJ22_lastRet) (mJ22_this_0 := mJ22_this_0) (mJ23_cursor := mJ23_cursor) (mJ23_lastRet := mJ23_lastRet) (mJ23_expectedModCount := mJ23_expectedModCount) (mJ23_this_0 := mJ23_this_0) (sa := sa) (S := V) (s := wh) (kc := (kc + 1) + 1) (ks' := (ks' + 2) + 10) (by omega) hz (fun j hj bj => by rw [v6]; exact hin j hj bj) (fun kd7 an7 ai7 mB7 kc7 ks7 O9 b1 b2 => ⟨by omega, ?_⟩) 64 0 (wh) kd6 an6 ai6 mX63_bytes ((kc + 1) + 1) ((ks' + 2) + 10) (by decide) (by decide) O8 hz (fun j hj => ⟨fun z => ⟨z, Nat.zero_le _⟩, fun z => z.1⟩) (by omega) (by omega)⟩
    have O10 := O9
    obtain ⟨_, _, _, _, _, _, _, _, _, _, _, _, _, _, d27, e27, c27, h27, w27, _, _, _, _, _, _, _, B5, _⟩ := O9
    have f1 : (kdPL V (kdPs V.dk (wh) V.pl 64)).ol = 0 := v1
    have f2 : (kdPL V (kdPs V.dk (wh) V.pl 64)).nw = 0 := v2
    have f3 : (kdPL V (kdPs V.dk (wh) V.pl 64)).nu 0 = nh := v3
    rw [f1, f2] at B5
    obtain ⟨u1, u2, u3⟩ := B5.2.2 (0 - 0) (by decide) (by decide)
    rw [show (0 : Int) + (0 - 0) = 0 by decide, f3] at u2
    refine CKD_latest B5 (by decide) (kOn_some ⟨u1, by omega, ?_⟩)
    unfold wpKD_X43_number
    rw [u2]
    rw [v5, v6] at O10
    exact ⟨by omega, by omega, H _ _ _ _ _ _ _ _ _ _ _ _ _ _ O10⟩
  · refine ⟨fun z => by rw [ey] at z; exact (nomatch z), fun b eb => ?_⟩
    rw [ey] at eb ⊢
    generalize kdHn S.dk h = nh at H en
    generalize kdHw S.dk h = wh at H es hz hin
    refine ⟨1, 10, by omega, CKD_begin (kd := kd) (an := an) (ai := ai) (al := al) (ar := ar) (mX42_disk := mX42_disk) (mX42_count := mX42_count) (mX42_runs := mX42_runs) (mX42_isFull := mX42_isFull) (mX42_places := mX42_places) (mX42_laid := mX42_laid) (mX42_changed := mX42_changed) (mX42_waiting := mX42_waiting) (mX42_states := mX42_states) (mX42_kept := mX42_kept) (mX43_number := mX43_number) (mX43_sectors := mX43_sectors) (mX63_bytes := mX63_bytes) (mX64_to := mX64_to) (mX64_sector := mX64_sector) (mJ1_modCount := mJ1_modCount) (mJ2_elementData := mJ2_elementData) (mJ2_size := mJ2_size) (mJ5_elements := mJ5_elements) (mJ5_head := mJ5_head) (mJ5_tail := mJ5_tail) (mJ22_cursor := mJ22_cursor) (mJ22_remaining := mJ22_remaining) (mJ22_lastRet := mJ22_lastRet) (mJ22_this_0 := mJ22_this_0) (mJ23_cursor := mJ23_cursor) (mJ23_lastRet := mJ23_lastRet) (mJ23_expectedModCount := mJ23_expectedModCount) (mJ23_this_0 := mJ23_this_0) (sa := sa) (S := S) (nn := nh) (ss := wh) (by decide) hmo O.2.2 ⟨k2, en, es⟩ hz hk4 (fun kd6 an6 ai6 ar6 G6 M6 Z6 E6 H6 T6 O6 _ R' eR => ⟨by omega, ?_⟩)⟩
    have O7 := kdOK.run (v := 1) O6
    rw [eR]
    have hV := kdSt_e (S := S) (nn := nh) (ss := wh)
    obtain ⟨V, eV⟩ : ∃ V, V = (KS.mk ((kdBg S (nh) (wh)).dk) ((kdBg S (nh) (wh)).lt) ((kdBg S (nh) (wh)).op) ((kdBg S (nh) (wh)).ld) ((kdBg S (nh) (wh)).pl) ((kdBg S (nh) (wh)).nu) ((kdBg S (nh) (wh)).se) ((kdBg S (nh) (wh)).ku) ((kdBg S (nh) (wh)).ks) ((kdBg S (nh) (wh)).tg) ((kdBg S (nh) (wh)).by') (1) ((kdBg S (nh) (wh)).fu) ((kdBg S (nh) (wh)).ch) ((kdBg S (nh) (wh)).fi) ((kdBg S (nh) (wh)).be) ((kdBg S (nh) (wh)).ol) ((kdBg S (nh) (wh)).nw) ((kdBg S (nh) (wh)).kn) ((kdBg S (nh) (wh)).mo)) := ⟨_, rfl⟩
    rw [← eV] at O7 H hV
    obtain ⟨v1, v2, v3, v4, v5, v6⟩ := hV
    have O8 := O7
    obtain ⟨_, _, _, _, _, _, _, _, _, _, _, _, _, _, d25, e25, c25, h25, w25, _, _, _, _, _, _, _, A5, _⟩ := O7
    rw [v1, v2] at A5
    obtain ⟨u1, u2, u3⟩ := A5.2.2 (0 - 0) (by decide) (by decide)
    rw [show (0 : Int) + (0 - 0) = 0 by decide, v3] at u2
    rw [show (0 : Int) + (0 - 0) = 0 by decide, v4] at u3
    refine CKD_latest A5 (by decide) (kOn_some ⟨u1, by omega, ?_⟩)
    unfold wpKD_X43_sectors
    rw [u3]
    refine ⟨65, CKD_s86 (al := al) (ar := ar6) (mX42_disk := mX42_disk) (mX42_count := mX42_count) (mX42_runs := va_up mX42_runs x 1) (mX42_isFull := mX42_isFull) (mX42_places := mX42_places) (mX42_laid := mX42_laid) (mX42_changed := G6) (mX42_waiting := mX42_waiting) (mX42_states := mX42_states) (mX42_kept := mX42_kept) (mX43_number := mX43_number) (mX43_sectors := mX43_sectors) (mX64_to := mX64_to) (mX64_sector := mX64_sector) (mJ1_modCount := M6) (mJ2_elementData := mJ2_elementData) (mJ2_size := Z6) (mJ5_elements := E6) (mJ5_head := H6) (mJ5_tail := T6) (mJ22_cursor := mJ22_cursor) (mJ22_remaining := mJ22_remaining) (mJ22_lastRet := mJ22_lastRet) (mJ22_this_0 := mJ22_this_0) (mJ23_cursor := mJ23_cursor) (mJ23_lastRet := mJ23_lastRet) (mJ23_expectedModCount := mJ23_expectedModCount) (mJ23_this_0 := mJ23_this_0) (sa := sa) (S := V) (s := wh) (kc := kc + 1) (ks' := ks' + 10) (by omega) hz (fun j hj bj => by rw [v6]; exact hin j hj bj) (fun kd7 an7 ai7 mB7 kc7 ks7 O9 b1 b2 => ⟨by omega, ?_⟩) 64 0 (wh) kd6 an6 ai6 mX63_bytes (kc + 1) (ks' + 10) (by decide) (by decide) O8 hz (fun j hj => ⟨fun z => ⟨z, Nat.zero_le _⟩, fun z => z.1⟩) (by omega) (by omega)⟩
    have O10 := O9
    obtain ⟨_, _, _, _, _, _, _, _, _, _, _, _, _, _, d27, e27, c27, h27, w27, _, _, _, _, _, _, _, B5, _⟩ := O9
    have f1 : (kdPL V (kdPs V.dk (wh) V.pl 64)).ol = 0 := v1
    have f2 : (kdPL V (kdPs V.dk (wh) V.pl 64)).nw = 0 := v2
    have f3 : (kdPL V (kdPs V.dk (wh) V.pl 64)).nu 0 = nh := v3
    rw [f1, f2] at B5
    obtain ⟨u1, u2, u3⟩ := B5.2.2 (0 - 0) (by decide) (by decide)
    rw [show (0 : Int) + (0 - 0) = 0 by decide, f3] at u2
    refine CKD_latest B5 (by decide) (kOn_some ⟨u1, by omega, ?_⟩)
    unfold wpKD_X43_number
    rw [u2]
    rw [v5, v6] at O10
    exact ⟨by omega, by omega, H _ _ _ _ _ _ _ _ _ _ _ _ _ _ O10⟩
theorem CKD_start {post : Int → (Nat → Nat) → (Nat → Nat) → (Nat → Int → Int) → (Nat → Int → Option Nat) → (Nat → Int) → (Nat → Int) → (Nat → Int) → (Nat → Int) → (Nat → Option Nat) → (Nat → Int) → (Nat → Int) → (Nat → Option Nat) → (Nat → Int) → (Nat → Int) → Prop} (hM : 400 ≤ MC ∧ 6500 ≤ MS) (O : kdOK kd an ai al ar mX42_disk mX42_count mX42_runs mX42_isFull mX42_places mX42_laid mX42_changed mX42_waiting mX42_states mX42_kept mX43_number mX43_sectors mX63_bytes mX64_to mX64_sector mJ1_modCount mJ2_elementData mJ2_size mJ5_elements mJ5_head mJ5_tail mJ22_cursor mJ22_remaining mJ22_lastRet mJ22_this_0 mJ23_cursor mJ23_lastRet mJ23_expectedModCount mJ23_this_0 sa x S) (hmo : S.mo < 90000) (H : ∀ kd' an' ai' ar' R' G' mN' mU' mB' M' Z' mE' mH' mT', kdOK (kd') (an') (ai') al (ar') mX42_disk mX42_count (R') mX42_isFull mX42_places mX42_laid (G') mX42_waiting mX42_states mX42_kept (mN') (mU') (mB') mX64_to mX64_sector (M') mJ2_elementData (Z') (mE') (mH') (mT') mJ22_cursor mJ22_remaining mJ22_lastRet mJ22_this_0 mJ23_cursor mJ23_lastRet mJ23_expectedModCount mJ23_this_0 sa x (kdSt2 S).2 → post (kdSt2 S).1 kd' an' ai' ar' R' G' mN' mU' mB' M' Z' mE' mH' mT') : wpKD_X42_start MC MS post kd an ai ar mX42_disk mX42_count mX42_runs mX42_places mX42_laid mX42_changed mX42_waiting mX42_states mX42_kept mX43_number mX43_sectors mX63_bytes mJ1_modCount mJ2_elementData mJ2_size mJ5_elements mJ5_head mJ5_tail sa x := by
  have O0 := O
  obtain ⟨Rg, Lt, dq, pq, lq, ls, lb, d1, e1, c1, h1, w1, ws, wb, d2, e2, c2, h2, w2, l, e3, w3, C1, C2, C3, C4, C5, C6, C7, D1, D2, Mo⟩ := O
  unfold wpKD_X42_start
  rw [C1.2.1.2.1]
  unfold kdSt2 at H
  refine ⟨fun r0 => ?_, fun r0 => ?_⟩
  rotate_left
  · rw [if_pos r0] at H
    exact ⟨by omega, by omega, H _ _ _ _ _ _ _ _ _ _ _ _ _ _ O0⟩
  rw [if_neg (fun w => w r0)] at H
  have hH : ∀ h : Int, h = kdHh S.dk → (∀ kd' an' ai' ar' R' G' mN' mU' mB' M' Z' mE' mH' mT', kdOK (kd') (an') (ai') al (ar') mX42_disk mX42_count (R') mX42_isFull mX42_places mX42_laid (G') mX42_waiting mX42_states mX42_kept (mN') (mU') (mB') mX64_to mX64_sector (M') mJ2_elementData (Z') (mE') (mH') (mT') mJ22_cursor mJ22_remaining mJ22_lastRet mJ22_this_0 mJ23_cursor mJ23_lastRet mJ23_expectedModCount mJ23_this_0 sa x (kdPL (KS.mk ((kdBg S (kdHn S.dk h) (kdHw S.dk h)).dk) ((kdBg S (kdHn S.dk h) (kdHw S.dk h)).lt) ((kdBg S (kdHn S.dk h) (kdHw S.dk h)).op) ((kdBg S (kdHn S.dk h) (kdHw S.dk h)).ld) ((kdBg S (kdHn S.dk h) (kdHw S.dk h)).pl) ((kdBg S (kdHn S.dk h) (kdHw S.dk h)).nu) ((kdBg S (kdHn S.dk h) (kdHw S.dk h)).se) ((kdBg S (kdHn S.dk h) (kdHw S.dk h)).ku) ((kdBg S (kdHn S.dk h) (kdHw S.dk h)).ks) ((kdBg S (kdHn S.dk h) (kdHw S.dk h)).tg) ((kdBg S (kdHn S.dk h) (kdHw S.dk h)).by') (1) ((kdBg S (kdHn S.dk h) (kdHw S.dk h)).fu) ((kdBg S (kdHn S.dk h) (kdHw S.dk h)).ch) ((kdBg S (kdHn S.dk h) (kdHw S.dk h)).fi) ((kdBg S (kdHn S.dk h) (kdHw S.dk h)).be) ((kdBg S (kdHn S.dk h) (kdHw S.dk h)).ol) ((kdBg S (kdHn S.dk h) (kdHw S.dk h)).nw) ((kdBg S (kdHn S.dk h) (kdHw S.dk h)).kn) ((kdBg S (kdHn S.dk h) (kdHw S.dk h)).mo)) (kdPs S.dk (kdHw S.dk h) (kdFl S.pl 30 (-1)) 64)) → post (kdHn S.dk h) kd' an' ai' ar' R' G' mN' mU' mB' M' Z' mE' mH' mT') := fun h eh => by
    rw [eh]; exact H
  clear H
  have e0n : kdHn S.dk 0 = kdNo S.dk (32 * 0 + 16) := rfl
  have e0w : kdHw S.dk 0 = kdWi S.dk (32 * 0 + 8) := rfl
  have e1n : kdHn S.dk 1 = kdNo S.dk (32 * 1 + 16) := rfl
  have e1w : kdHw S.dk 1 = kdWi S.dk (32 * 1 + 8) := rfl
  have n16 : kdNo S.dk (32 * 0 + 16) = kdNo S.dk 16 := rfl
  have n48 : kdNo S.dk (32 * 1 + 16) = kdNo S.dk 48 := rfl
  refine ⟨131, 2147, by omega, CKD_whole (by decide) (by decide) C1 (fun kd1 an1 ai1 mB1 K1 no0 _ => ⟨131, 2147, by omega, CKD_whole (by decide) (by decide) (C1.kp K1) (fun kd2 an2 ai2 mB2 K2 no1 _ => ⟨fun _ => ?_, fun b eb => (nomatch eb)⟩) (fun q kd2 an2 ai2 mB2 K2 hq y1 _ => ⟨fun _ => ?_, fun b eb => (nomatch eb)⟩)⟩) (fun q0 kd1 an1 ai1 mB1 K1 hq0 y0 _ => ⟨131, 2147, by omega, ?_⟩)⟩
  · refine CKD_s50 (S := S) (h := -1) (by omega) (O0.kp (K1.trans K2)) hmo (Or.inl ⟨rfl, rfl⟩) (Or.inl rfl) (Or.inl rfl) (hH (-1) ?_)
    unfold kdHh
    rw [pif_f (fun w => no0 w.1), pif_f no1]
  · refine CKD_s50 (S := S) (h := 1) (by omega) ((O0.kp (K1.trans K2)).new2 hq) hmo (Or.inr ⟨q, rfl, va_up_self _ _ _, ?_, ?_⟩) (Or.inr y1) (Or.inr (Or.inr rfl)) (hH 1 ?_)
    · rw [e1n]; exact va_up_self _ _ _
    · rw [e1w]; exact va_up_self _ _ _
    · unfold kdHh
      rw [pif_f (fun w => no0 w.1), pif_t y1]
  have O1 := (O0.kp (J1 := mJ22_cursor) (J2 := mJ22_remaining) (J3 := mJ22_lastRet) (J4 := mJ22_this_0) (J5 := mJ23_cursor) (J6 := mJ23_lastRet) (J7 := mJ23_expectedModCount) (J8 := mJ23_this_0) K1).new2 (A := kdNo S.dk (32 * 0 + 16)) (B := kdWi S.dk (32 * 0 + 8)) hq0
  have O1' := O1
  obtain ⟨_, _, dq1, _, _, _, _, _, _, _, _, _, _, _, _, _, _, _, _, _, _, _, A1, _⟩ := O1
  refine CKD_whole (by decide) (by decide) A1 (fun kd2 an2 ai2 mB2 K2 no1 _ => ⟨fun z => (nomatch z), fun b eb => ?_⟩) (fun q kd2 an2 ai2 mB2 K2 hq y1 _ => ⟨fun z => (nomatch z), fun b eb => ?_⟩)
  · cases eb
    have kq := (K2 q0 (by rw [va_up_self]; decide)).1
    rw [va_up_self] at kq
    refine ⟨fun _ => ?_, fun b eb => (nomatch eb)⟩
    refine CKD_s50 (S := S) (h := 0) (by omega) (O1'.kp K2) hmo (Or.inr ⟨q0, rfl, kq, ?_, ?_⟩) (Or.inr y0) (Or.inr (Or.inl rfl)) (hH 0 ?_)
    · rw [e0n]; exact va_up_self _ _ _
    · rw [e0w]; exact va_up_self _ _ _
    · unfold kdHh
      rw [pif_t ⟨y0, fun w => absurd w no1⟩]
  · cases eb
    have kq := (K2 q0 (by rw [va_up_self]; decide)).1
    rw [va_up_self] at kq
    have nq : ¬ q0 = q := fun z => by rw [z, hq] at kq; exact absurd kq (by decide)
    have eN0 : va_up (va_up mX43_number q0 (kdNo S.dk (32 * 0 + 16))) q (kdNo S.dk (32 * 1 + 16)) q0 = kdNo S.dk (32 * 0 + 16) := by rw [va_up_ne _ _ nq, va_up_self]
    have eU0 : va_up (va_up mX43_sectors q0 (kdWi S.dk (32 * 0 + 8))) q (kdWi S.dk (32 * 1 + 8)) q0 = kdWi S.dk (32 * 0 + 8) := by rw [va_up_ne _ _ nq, va_up_self]
    have eN1 : va_up (va_up mX43_number q0 (kdNo S.dk (32 * 0 + 16))) q (kdNo S.dk (32 * 1 + 16)) q = kdNo S.dk (32 * 1 + 16) := va_up_self _ _ _
    refine ⟨fun z => (nomatch z), fun b eb => ?_⟩
    cases eb
    refine ⟨by rw [va_up_ne _ _ nq]; exact kq, by omega, ?_⟩
    unfold wpKD_X43_number
    rw [eN0]
    refine ⟨va_up_self _ _ _, by omega, ?_⟩
    rw [eN1]
    refine ⟨fun lt => ?_, fun ge => ?_⟩
    · refine CKD_s50 (S := S) (h := 1) (by omega) ((O1'.kp K2).new2 hq) hmo (Or.inr ⟨q, rfl, va_up_self _ _ _, ?_, ?_⟩) (Or.inr y1) (Or.inr (Or.inr rfl)) (hH 1 ?_)
      · rw [e1n]; exact va_up_self _ _ _
      · rw [e1w]; exact va_up_self _ _ _
      · unfold kdHh
        rw [pif_f (fun w => by have := w.2 y1; omega), pif_t y1]
    · refine CKD_s50 (S := S) (h := 0) (by omega) ((O1'.kp K2).new2 hq) hmo (Or.inr ⟨q0, rfl, by rw [va_up_ne _ _ nq]; exact kq, ?_, ?_⟩) (Or.inr y0) (Or.inr (Or.inl rfl)) (hH 0 ?_)
      · rw [e0n]; exact eN0
      · rw [e0w]; exact eU0
      · unfold kdHh
        rw [pif_t ⟨y0, fun _ => by omega⟩]
end
