/-! KnowDisk, the component: writes that reach the disk, sync, cut -/
def kdDF (S : KS) (d : Int → Int) (f : Int) : KS := (KS.mk (d) (S.lt) (S.op) (S.ld) (S.pl) (S.nu) (S.se) (S.ku) (S.ks) (S.tg) (S.by') (S.ru) (S.fu) (S.ch) (f) (S.be) (S.ol) (S.nw) (S.kn) (S.mo))
theorem kdDF_tg {S : KS} {d : Int → Int} {f : Int} : (kdDF S d f).tg = S.tg := rfl
theorem kdDF_by {S : KS} {d : Int → Int} {f : Int} : (kdDF S d f).by' = S.by' := rfl
theorem kdDF_dk {S : KS} {d : Int → Int} {f : Int} : (kdDF S d f).dk = d := rfl
theorem kdDF_fi {S : KS} {d : Int → Int} {f : Int} : (kdDF S d f).fi = f := rfl
theorem kdDF_DF {S : KS} {d e : Int → Int} {f g : Int} : kdDF (kdDF S d f) e g = kdDF S e g := rfl
theorem kdDF_0 {S : KS} : kdDF S S.dk S.fi = S := rfl
def kdSp (S : KS) (n : Int) : KS := kdDF S (kdWr S.dk S.tg S.by' S.fi n) (S.fi + 1)
def kdSm2 (S : KS) (m : Nat) : KS := kdDF S (kdWm S.dk S.tg S.by' S.fi m) (S.fi + m)
theorem kdSp_e {S : KS} {m : Nat} {n : Int} : kdSp (kdSm2 S m) n = kdDF S (kdWr (kdWm S.dk S.tg S.by' S.fi m) S.tg S.by' (S.fi + m) n) (S.fi + m + 1) := by
  unfold kdSp kdSm2
  rw [kdDF_tg, kdDF_by, kdDF_dk, kdDF_fi, kdDF_DF]
theorem kdSm2_s {S : KS} {m : Nat} : kdSp (kdSm2 S m) 32 = kdSm2 S (m + 1) := by
  rw [kdSp_e]
  unfold kdSm2
  rw [kdWm_s, show S.fi + (m : Int) + 1 = S.fi + ((m + 1 : Nat) : Int) by omega]
theorem kdSm2_0 {S : KS} : kdSm2 S 0 = S := by
  unfold kdSm2
  rw [show S.fi + ((0 : Nat) : Int) = S.fi by omega]
  exact kdDF_0
theorem kdLt.st {lt dk tg by' : Int → Int} {fi be : Int} (L : kdLt lt dk tg by' fi be) (h : fi < be) : kdLt lt (kdWr dk tg by' fi 32) tg by' (fi + 1) be := by
  refine ⟨fun w w0 w1 no j j0 j1 => L.1 w (by omega) w1 no j j0 j1, fun k k0 k1 nw j j0 j1 => ?_⟩
  unfold kdWr kdCn
  by_cases z : tg fi = k
  · rw [z, if_pos (by omega), show 32 * k + j - 32 * k = j by omega, ← z]
    exact L.1 fi (Int.le_refl _) h (fun w' a b e => nw ⟨w', by omega, e.trans z⟩) j j0 j1
  · rw [if_neg (by omega)]
    refine L.2 k k0 k1 (fun ⟨s, hs, e⟩ => ?_) j j0 j1
    by_cases z2 : s = fi
    · rw [z2] at e; exact z e
    · exact nw ⟨s, by omega, e⟩
theorem kdRg.st {S : KS} {n : Int} (R : kdRg S.pl S.tg S.fi S.be S.se S.ol S.nw S.ks S.kn) (h : S.fi < S.be) : kdRg (kdSp S n).pl (kdSp S n).tg (kdSp S n).fi (kdSp S n).be (kdSp S n).se (kdSp S n).ol (kdSp S n).nw (kdSp S n).ks (kdSp S n).kn := by
  obtain ⟨r1, r2, r3, r4, r5, r6⟩ := R
  refine ⟨r1, fun s s0 s1 => r2 s (by have : S.fi + 1 ≤ s := s0; omega) s1, r3, r4, ?_, r6⟩
  show 0 ≤ S.fi + 1 ∧ S.fi + 1 ≤ S.be ∧ S.be ≤ 1200
  omega
section
variable {kd : Nat → Nat} {an : Nat → Nat} {ai : Nat → Int → Int} {al : Nat → Int → Int} {ar : Nat → Int → Option Nat} {mX42_disk : Nat → Option Nat} {mX42_count : Nat → Int} {mX42_runs : Nat → Int} {mX42_isFull : Nat → Int} {mX42_places : Nat → Option Nat} {mX42_laid : Nat → Option Nat} {mX42_changed : Nat → Int} {mX42_waiting : Nat → Option Nat} {mX42_states : Nat → Option Nat} {mX42_kept : Nat → Option Nat} {mX43_number : Nat → Int} {mX43_sectors : Nat → Int} {mX63_bytes : Nat → Option Nat} {mX64_to : Nat → Int} {mX64_sector : Nat → Option Nat} {mJ1_modCount : Nat → Int} {mJ2_elementData : Nat → Option Nat} {mJ2_size : Nat → Int} {mJ5_elements : Nat → Option Nat} {mJ5_head : Nat → Int} {mJ5_tail : Nat → Int} {mJ22_cursor : Nat → Int} {mJ22_remaining : Nat → Int} {mJ22_lastRet : Nat → Int} {mJ22_this_0 : Nat → Option Nat} {mJ23_cursor : Nat → Int} {mJ23_lastRet : Nat → Int} {mJ23_expectedModCount : Nat → Int} {mJ23_this_0 : Nat → Option Nat} {sa : Nat → Nat} {d e q x l dq pq lq d1 e1 d2 e2 e3 s b : Nat} {cap hd n i c1 h1 c2 h2 : Int} {el f ls lb ws wb w1 w2 w3 w : Int → Nat} {MC MS kc ks' : Nat} {A B : Prop} {dk op lt ld pl tg by' nu se ku ks : Int → Int} {fi be ol nw kn k p v ru fu ch lo : Int} {fn : Int → Int} {P : Nat → Prop} {kd' an' : Nat → Nat} {ai' : Nat → Int → Int} {ar' : Nat → Int → Option Nat} {mB' mS' mE' : Nat → Option Nat} {mO' mN' mU' mH' mT' : Nat → Int} {S : KS} {a to fr nr nn ss keep tear : Int} {src op' ld' : Int → Int} {e' sp wq : Nat} {Q Qr Qd : Nat → Prop}
theorem CKD_write {post : (Nat → Int → Int) → Prop} (C1 : kdC1 kd an ai mX42_disk mX42_count mX42_runs mX42_isFull mX42_changed x dq dk ru fu ch) (h : kd wq = 4 ∧ mX64_to wq = to ∧ mX64_sector wq = some s) (Sq : kdSe kd an ai mX63_bytes 0 s b fn) (ht : 0 ≤ to ∧ to < 48) (hn : 0 ≤ n ∧ n ≤ 32) (hp : post (va_up ai dq (zcpy (ai b) (ai dq) 0 (32 * to) n))) : wpKD_X42_write post kd an ai mX42_disk mX63_bytes mX64_to mX64_sector x (some wq) n := by
  unfold wpKD_X42_write
  refine kOn_some ⟨h.1, ?_⟩
  unfold wpKD_X64_sector wpKD_X64_to
  rw [h.2.2, h.2.1]
  refine kOn_some ⟨Sq.1, by omega, kOn_of C1.1.2.1 (kOn_of Sq.2.1 ⟨C1.1.2.2.1, Sq.2.2.1, ?_, fun i i0 i1 => ?_, fun a2 ea => by rw [ea]; exact hp⟩)⟩
  · rw [Sq.2.2.2.1, C1.1.2.2.2]; omega
  · rw [Int.zero_add]; exact (Sq.2.2.2.2 i i0 (by omega)).1
theorem CKD_poll (O : kdOB kd an ai al ar mX42_disk mX42_count mX42_runs mX42_isFull mX42_places mX42_laid mX42_changed mX42_waiting mX42_states mX42_kept mX43_number mX43_sectors mX63_bytes mX64_to mX64_sector mJ1_modCount mJ2_elementData mJ2_size mJ5_elements mJ5_head mJ5_tail mJ22_cursor mJ22_remaining mJ22_lastRet mJ22_this_0 mJ23_cursor mJ23_lastRet mJ23_expectedModCount mJ23_this_0 sa x S) (hlt : S.fi < S.be) (ht : 0 ≤ S.tg S.fi ∧ S.tg S.fi < 48) : ∃ d w, mX42_waiting x = some d ∧ kd d = 6 ∧ kd w = 4 ∧ ∀ post : Option Nat → (Nat → Int → Option Nat) → (Nat → Int) → Prop, (∀ ar' mH', (∀ n, 0 ≤ n → n ≤ 32 → ∀ postw : (Nat → Int → Int) → Prop, (∀ ai', kdOB kd an (ai') al (ar') mX42_disk mX42_count mX42_runs mX42_isFull mX42_places mX42_laid mX42_changed mX42_waiting mX42_states mX42_kept mX43_number mX43_sectors mX63_bytes mX64_to mX64_sector mJ1_modCount mJ2_elementData mJ2_size mJ5_elements (mH') mJ5_tail mJ22_cursor mJ22_remaining mJ22_lastRet mJ22_this_0 mJ23_cursor mJ23_lastRet mJ23_expectedModCount mJ23_this_0 sa x (kdSp S n) → postw ai') → wpKD_X42_write postw kd an ai mX42_disk mX63_bytes mX64_to mX64_sector x (some w) n) → post (some w) ar' mH') → wpKD_J5_poll post kd an ar mJ5_elements mJ5_head d := by
  obtain ⟨dq, pq, lq, ls, lb, d1, e1, c1, h1, w1, ws, wb, d2, e2, c2, h2, w2, l, e3, w3, C1, C2, C3, C4, C5, C6, C7, D1, D2, Mo⟩ := O
  obtain ⟨⟨w4, wt, wS⟩, Sq⟩ := C4.2.2 0 (Int.le_refl 0) (by omega)
  rw [show S.fi + 0 = S.fi by omega] at wt
  have kdq := C1.1.2.2.1
  have kpq := C2.1.2.1
  have klq := C3.1.2.1
  have ke1 := C4.2.1.1.2.2.1
  refine ⟨d1, w1 0, C4.1, C4.2.1.1.1, w4, fun post hp => CKD_dpoll C4.2.1 (by omega) (fun g hd' D' => hp _ _ (fun n n0 n1 postw hw => CKD_write C1 ⟨w4, wt, wS⟩ Sq ht ⟨n0, n1⟩ (hw _ ?_)))⟩
  have K : kdKx (fun r => r = dq) (fun r => r = e1) (fun r => r = d1) kd an ai ar mX63_bytes mX64_to mX64_sector mX43_number mX43_sectors mJ5_elements mJ5_head mJ5_tail kd an (va_up ai dq (zcpy (ai (wb 0)) (ai dq) 0 (32 * S.tg S.fi) n)) (va_up ar e1 g) mX63_bytes mX64_to mX64_sector mX43_number mX43_sectors mJ5_elements (va_up mJ5_head d1 hd') mJ5_tail := fun r hr => ⟨⟨rfl, rfl, rfl⟩, ⟨rfl, rfl⟩, ⟨rfl, rfl⟩, fun z => va_up_ne _ _ z, fun z => va_up_ne _ _ z, fun z => ⟨rfl, va_up_ne _ _ z, rfl⟩⟩
  refine ⟨dq, pq, lq, ls, lb, d1, e1, c1, hd', fun i => w1 (i + 1), fun i => ws (i + 1), fun i => wb (i + 1), d2, e2, c2, h2, w2, l, e3, w3, ⟨C1.1, C1.2.1, fun i i0 i1 => ?_⟩, C2.kx K (fun z => ?_), C3.kx K (fun z => ?_) (fun k k0 k1 kl z => (C7.1.2 k k0 k1 kl).1 z), ⟨C4.1, ?_, fun i i0 i1 => ?_⟩, C5.kx K (fun z => C7.1.1.2 z.symm) (fun z => C7.1.1.1 z.symm), C6.kx K (fun n0 z => D1.1 n0 z), ⟨⟨C7.1.1, fun k k0 k1 kl => ?_⟩, fun i i0 i1 => ?_⟩, D1, D2, Mo⟩
  · have c := C1.2.2 i i0 i1
    have sb := fun j (j0 : 0 ≤ j) (j1 : j < 32) => Sq.2.2.2.2 j j0 j1
    rw [va_up_self]
    show (-128 ≤ zcpy (ai (wb 0)) (ai dq) 0 (32 * S.tg S.fi) n i ∧ zcpy (ai (wb 0)) (ai dq) 0 (32 * S.tg S.fi) n i < 128) ∧ zcpy (ai (wb 0)) (ai dq) 0 (32 * S.tg S.fi) n i % 256 = kdWr S.dk S.tg S.by' S.fi n i
    unfold zcpy kdWr kdCn
    by_cases z : 32 * S.tg S.fi ≤ i ∧ i < 32 * S.tg S.fi + n
    · rw [if_pos z, if_pos z, show 0 + (i - 32 * S.tg S.fi) = i - 32 * S.tg S.fi by omega]
      have q := sb (i - 32 * S.tg S.fi) (by omega) (by omega)
      refine ⟨q.1, (q.2 (by omega)).trans ?_⟩
      show S.by' (32 * (S.fi + 0) + (i - 32 * S.tg S.fi)) = S.by' (32 * S.fi + (i - 32 * S.tg S.fi))
      rw [Int.add_zero]
    · rw [if_neg z, if_neg z]; exact c
  · rw [z] at kpq; omega
  · rw [z] at klq; omega
  · show dqD kd an _ mJ5_elements _ mJ5_tail d1 e1 c1 hd' (S.be - (S.fi + 1)) _
    rw [show S.be - (S.fi + 1) = S.be - S.fi - 1 by omega]; exact D'
  · have i1' : i < S.be - (S.fi + 1) := i1
    obtain ⟨u, u4⟩ := C4.2.2 (i + 1) (by omega) (by omega)
    rw [show S.fi + (i + 1) = S.fi + 1 + i by omega] at u u4
    exact ⟨u, u4.kx K (fun z => C7.2 (i + 1) (by omega) (by omega) z)⟩
  · obtain ⟨x1, x2, x3⟩ := C7.1.2 k k0 k1 kl
    refine ⟨x1, x2, fun i i0 i1 => ?_⟩
    have i1' : i < S.be - (S.fi + 1) := i1
    exact x3 (i + 1) (by omega) (by omega)
  · have i1' : i < S.be - (S.fi + 1) := i1
    exact C7.2 (i + 1) (by omega) (by omega)
theorem CKD_sy10 {K : (Nat → Int → Int) → (Nat → Int → Option Nat) → (Nat → Int) → Prop} {M : Nat} (hM : S.fi + M = S.be) (hK : ∀ (ai : Nat → Int → Int) (ar : Nat → Int → Option Nat) (mJ5_head : Nat → Int), kdOK kd an ai al ar mX42_disk mX42_count mX42_runs mX42_isFull mX42_places mX42_laid mX42_changed mX42_waiting mX42_states mX42_kept mX43_number mX43_sectors mX63_bytes mX64_to mX64_sector mJ1_modCount mJ2_elementData mJ2_size mJ5_elements mJ5_head mJ5_tail mJ22_cursor mJ22_remaining mJ22_lastRet mJ22_this_0 mJ23_cursor mJ23_lastRet mJ23_expectedModCount mJ23_this_0 sa x (kdSm2 S M) → K ai ar mJ5_head) : ∀ (j m : Nat) (ai : Nat → Int → Int) (ar : Nat → Int → Option Nat) (mJ5_head : Nat → Int), m + j = M → kdOK kd an ai al ar mX42_disk mX42_count mX42_runs mX42_isFull mX42_places mX42_laid mX42_changed mX42_waiting mX42_states mX42_kept mX43_number mX43_sectors mX63_bytes mX64_to mX64_sector mJ1_modCount mJ2_elementData mJ2_size mJ5_elements mJ5_head mJ5_tail mJ22_cursor mJ22_remaining mJ22_lastRet mJ22_this_0 mJ23_cursor mJ23_lastRet mJ23_expectedModCount mJ23_this_0 sa x (kdSm2 S m) → wKD_X42_sync_10 K x kd an mX42_disk mX42_waiting mX63_bytes mX64_to mX64_sector mJ5_elements mJ5_tail (j + 1) ai ar mJ5_head := fun j => by
  induction j with
  | zero =>
    intro m ai ar mJ5_head hm O
    have O0 := O
    rw [wKD_X42_sync_10]
    obtain ⟨Rg, Lt, dq, pq, lq, ls, lb, d1, e1, c1, h1, w1, ws, wb, d2, e2, c2, h2, w2, l, e3, w3, C1, C2, C3, C4, C5, C6, C7, D1, D2, Mo⟩ := O
    have e : m = M := by omega
    subst e
    refine kOn_of C4.1 ⟨C4.2.1.1.1, CKD_dempB C4.2.1 (fun _ => hK _ _ _ O0) (fun w => absurd ?_ w)⟩
    show S.be - (S.fi + (m : Int)) = 0
    omega
  | succ j ih =>
    intro m ai ar mJ5_head hm O
    have O0 := O
    rw [wKD_X42_sync_10]
    have lt1 : (kdSm2 S m).fi < (kdSm2 S m).be := by show S.fi + (m : Int) < S.be; omega
    obtain ⟨d, w, ed, kd6, kw, hp⟩ := CKD_poll O.2.2 lt1 (O.1.2.1 _ (Int.le_refl _) lt1)
    obtain ⟨Rg, Lt, dq, pq, lq, ls, lb, d1, e1, c1, h1, w1, ws, wb, d2, e2, c2, h2, w2, l, e3, w3, C1, C2, C3, C4, C5, C6, C7, D1, D2, Mo⟩ := O
    have e : d = d1 := Option.some.inj (ed.symm.trans C4.1)
    rw [e] at hp
    refine kOn_of C4.1 ⟨C4.2.1.1.1, CKD_dempB C4.2.1 (fun w => absurd w ?_) (fun _ => hp _ (fun ar' mH' hw => kOn_some ⟨kw, hw 32 (by decide) (by decide) _ (fun ai' O2 => ?_)⟩))⟩
    · show ¬ S.be - (S.fi + (m : Int)) = 0
      omega
    · refine ih (m + 1) ai' ar' mH' (by omega) ?_
      rw [← kdSm2_s]
      exact ⟨O0.1.st lt1, O0.2.1.st lt1, O2⟩
def kdO1 (S : KS) : KS := (KS.mk (S.dk) (S.lt) (S.op) (S.ld) (S.pl) (S.nu) (S.se) (S.ku) (S.ks) (S.tg) (S.by') (S.ru) (S.fu) (S.ch) (S.fi) (S.be) (S.ol + 1) (S.nw) (S.kn) (S.mo))
def kdOn : Nat → KS → KS
  | 0, S => S
  | m + 1, S => kdOn m (kdO1 S)
theorem kdOn_e : ∀ (m : Nat) (S : KS), kdOn m S = (KS.mk (S.dk) (S.lt) (S.op) (S.ld) (S.pl) (S.nu) (S.se) (S.ku) (S.ks) (S.tg) (S.by') (S.ru) (S.fu) (S.ch) (S.fi) (S.be) (S.ol + m) (S.nw) (S.kn) (S.mo))
  | 0, S => by
    rw [show S.ol + ((0 : Nat) : Int) = S.ol by omega]
    rfl
  | m + 1, S => by
    rw [kdOn, kdOn_e m]
    unfold kdO1
    dsimp only [KS.mk_dk, KS.mk_lt, KS.mk_op, KS.mk_ld, KS.mk_pl, KS.mk_nu, KS.mk_se, KS.mk_ku, KS.mk_ks, KS.mk_tg, KS.mk_by, KS.mk_ru, KS.mk_fu, KS.mk_ch, KS.mk_fi, KS.mk_be, KS.mk_ol, KS.mk_nw, KS.mk_kn, KS.mk_mo]
    rw [show S.ol + 1 + (m : Int) = S.ol + ((m + 1 : Nat) : Int) by omega]
theorem CKD_sy39 {K : (Nat → Int → Option Nat) → (Nat → Int) → Prop} {F : KS} (hK : ∀ (ar : Nat → Int → Option Nat) (mJ5_head : Nat → Int), kdOK kd an ai al ar mX42_disk mX42_count mX42_runs mX42_isFull mX42_places mX42_laid mX42_changed mX42_waiting mX42_states mX42_kept mX43_number mX43_sectors mX63_bytes mX64_to mX64_sector mJ1_modCount mJ2_elementData mJ2_size mJ5_elements mJ5_head mJ5_tail mJ22_cursor mJ22_remaining mJ22_lastRet mJ22_this_0 mJ23_cursor mJ23_lastRet mJ23_expectedModCount mJ23_this_0 sa x F → K ar mJ5_head) : ∀ (j : Nat) (S : KS) (ar : Nat → Int → Option Nat) (mJ5_head : Nat → Int), S.ol + j = S.nw → kdOn j S = F → kdOK kd an ai al ar mX42_disk mX42_count mX42_runs mX42_isFull mX42_places mX42_laid mX42_changed mX42_waiting mX42_states mX42_kept mX43_number mX43_sectors mX63_bytes mX64_to mX64_sector mJ1_modCount mJ2_elementData mJ2_size mJ5_elements mJ5_head mJ5_tail mJ22_cursor mJ22_remaining mJ22_lastRet mJ22_this_0 mJ23_cursor mJ23_lastRet mJ23_expectedModCount mJ23_this_0 sa x S → wKD_X42_sync_39 K x kd an mX42_states mJ5_elements mJ5_tail (j + 1) ar mJ5_head := fun j => by
  induction j with
  | zero =>
    intro S ar mJ5_head hm eF O
    have O0 := O
    rw [wKD_X42_sync_39]
    obtain ⟨Rg, Lt, dq, pq, lq, ls, lb, d1, e1, c1, h1, w1, ws, wb, d2, e2, c2, h2, w2, l, e3, w3, C1, C2, C3, C4, C5, C6, C7, D1, D2, Mo⟩ := O
    have eF' : S = F := eF
    refine kOn_of C5.1 ⟨C5.2.1.1.1, CKD_dsize C5.2.1 ⟨fun _ => hK _ _ (eF' ▸ O0), fun w => absurd (by omega) w⟩⟩
  | succ j ih =>
    intro S ar mJ5_head hm eF O
    rw [wKD_X42_sync_39]
    obtain ⟨Rg, Lt, dq, pq, lq, ls, lb, d1, e1, c1, h1, w1, ws, wb, d2, e2, c2, h2, w2, l, e3, w3, C1, C2, C3, C4, C5, C6, C7, D1, D2, Mo⟩ := O
    refine kOn_of C5.1 ⟨C5.2.1.1.1, CKD_dsize C5.2.1 ⟨fun w => absurd w (by omega), fun _ => CKD_dpoll C5.2.1 (by omega) (fun g hd' D' => ih (kdO1 S) _ _ (by show S.ol + 1 + (j : Int) = S.nw; omega) eF ?_)⟩⟩
    have K : kdKx (fun _ => False) (fun r => r = e2) (fun r => r = d2) kd an ai ar mX63_bytes mX64_to mX64_sector mX43_number mX43_sectors mJ5_elements mJ5_head mJ5_tail kd an ai (va_up ar e2 g) mX63_bytes mX64_to mX64_sector mX43_number mX43_sectors mJ5_elements (va_up mJ5_head d2 hd') mJ5_tail := fun r hr => ⟨⟨rfl, rfl, rfl⟩, ⟨rfl, rfl⟩, ⟨rfl, rfl⟩, fun z => rfl, fun z => va_up_ne _ _ z, fun z => ⟨rfl, va_up_ne _ _ z, rfl⟩⟩
    obtain ⟨r1, r2, r3, r4, r5, r6, r7⟩ := Rg
    have klq := C3.1.2.1
    have ke2 := C5.2.1.1.2.2.1
    have X3 := C3.kx K (fun z => by rw [z] at klq; omega) (fun _ _ _ _ z => z)
    have X4 := C4.kx K (fun z => C7.1.1.2 z) (fun z => C7.1.1.1 z) (fun _ _ _ z => z)
    have X6 := C6.kx K (fun n0 z => D2.1 n0 z)
    rw [show S.nw - S.ol + 1 - 1 = S.nw - (S.ol + 1) + 1 by omega] at D'
    have X5 : kdC5 kd an (va_up ar e2 g) mX42_states mX43_number mX43_sectors mJ5_elements (va_up mJ5_head d2 hd') mJ5_tail x d2 e2 c2 hd' (fun i => w2 (i + 1)) (S.ol + 1) S.nw S.nu S.se := ⟨C5.1, D', fun i i0 i1 => by
      have u := C5.2.2 (i + 1) (by omega) (by omega)
      rw [show S.ol + (i + 1) = S.ol + 1 + i by omega] at u
      exact u⟩
    exact ⟨⟨r1, r2, fun s s0 s1 => r3 s (by have : S.ol + 1 ≤ s := s0; omega) s1, r4, r5, by show 0 ≤ S.ol + 1 ∧ S.ol + 1 ≤ S.nw ∧ S.nw < 1200; omega, r7⟩, Lt, dq, pq, lq, ls, lb, d1, e1, c1, h1, w1, ws, wb, d2, e2, c2, hd', fun i => w2 (i + 1), l, e3, w3, C1, C2, X3, X4, X5, X6, C7, D1, D2, Mo⟩
def kdSy (S : KS) : Int × KS := if S.ru = 0 then (-3, S) else (S.nu S.nw, (KS.mk (kdWm S.dk S.tg S.by' S.fi (S.be - S.fi).toNat) (S.lt) (S.op) (S.ld) (S.pl) (updI S.nu 0 (S.nu S.nw)) (updI S.se 0 (S.se S.nw)) (S.ku) (S.ks) (S.tg) (S.by') (S.ru) (S.fu) (S.ch) (0) (0) (0) (0) (S.kn) (S.mo)))
theorem kdOK.re (O : kdOK kd an ai al ar mX42_disk mX42_count mX42_runs mX42_isFull mX42_places mX42_laid mX42_changed mX42_waiting mX42_states mX42_kept mX43_number mX43_sectors mX63_bytes mX64_to mX64_sector mJ1_modCount mJ2_elementData mJ2_size mJ5_elements mJ5_head mJ5_tail mJ22_cursor mJ22_remaining mJ22_lastRet mJ22_this_0 mJ23_cursor mJ23_lastRet mJ23_expectedModCount mJ23_this_0 sa x S) (hf1 : S.fi = S.be) (hf2 : S.ol = S.nw) : kdOK kd an ai al ar mX42_disk mX42_count mX42_runs mX42_isFull mX42_places mX42_laid mX42_changed mX42_waiting mX42_states mX42_kept mX43_number mX43_sectors mX63_bytes mX64_to mX64_sector mJ1_modCount mJ2_elementData mJ2_size mJ5_elements mJ5_head mJ5_tail mJ22_cursor mJ22_remaining mJ22_lastRet mJ22_this_0 mJ23_cursor mJ23_lastRet mJ23_expectedModCount mJ23_this_0 sa x (KS.mk (S.dk) (S.lt) (S.op) (S.ld) (S.pl) (updI S.nu 0 (S.nu S.nw)) (updI S.se 0 (S.se S.nw)) (S.ku) (S.ks) (S.tg) (S.by') (S.ru) (S.fu) (S.ch) (0) (0) (0) (0) (S.kn) (S.mo)) := by
  obtain ⟨Rg, Lt, dq, pq, lq, ls, lb, d1, e1, c1, hh1, w1, ws, wb, d2, e2, c2, hh2, w2, l, e3, w3, C1, C2, C3, C4, C5, C6, C7, D1, D2, Mo⟩ := O
  obtain ⟨r1, r2, r3, r4, r5, r6, r7⟩ := Rg
  have z0 : ¬ ∃ w, ((0 : Int) ≤ w ∧ w < 0) ∧ True := fun ⟨w, h, _⟩ => by omega
  refine ⟨⟨r1, fun s s0 s1 => absurd s1 (by show ¬ s < 0; have : 0 ≤ s := s0; omega), fun s s0 s1 => ?_, r4, by show (0 : Int) ≤ 0 ∧ (0 : Int) ≤ 0 ∧ (0 : Int) ≤ 1200; decide, by show (0 : Int) ≤ 0 ∧ (0 : Int) ≤ 0 ∧ (0 : Int) < 1200; decide, r7⟩, ⟨fun w w0 w1' => absurd w1' (by show ¬ w < 0; have : 0 ≤ w := w0; omega), fun k k0 k1 _ j j0 j1 => Lt.2 k k0 k1 (fun ⟨w, hw, _⟩ => by omega) j j0 j1⟩, dq, pq, lq, ls, lb, d1, e1, c1, hh1, w1, ws, wb, d2, e2, c2, hh2, w2, l, e3, w3, C1, C2, C3, ⟨C4.1, ?_, fun i i0 i1 => absurd i1 (by show ¬ i < 0 - 0; omega)⟩, ⟨C5.1, ?_, fun i i0 i1 => ?_⟩, C6, ⟨⟨C7.1.1, fun k k0 k1 kl => ?_⟩, fun i i0 i1 => absurd i1 (by show ¬ i < 0 - 0; omega)⟩, D1, D2, Mo⟩
  · have s0' : 0 ≤ s := s0
    have s1' : s ≤ 0 := s1
    show zL (updI S.se 0 (S.se S.nw) s)
    rw [show s = 0 by omega, updI_s]; exact r3 S.nw (by omega) (Int.le_refl _)
  · have D := C4.2.1
    rw [show S.be - S.fi = 0 - 0 by omega] at D
    exact D
  · have D := C5.2.1
    rw [show S.nw - S.ol + 1 = 0 - 0 + 1 by omega] at D
    exact D
  · have i1' : i ≤ 0 - 0 := i1
    have ei : i = 0 := by omega
    have u := C5.2.2 0 (Int.le_refl 0) (by omega)
    rw [show S.ol + 0 = S.nw by omega] at u
    show kd (w2 i) = 2 ∧ mX43_number (w2 i) = updI S.nu 0 (S.nu S.nw) (0 + i) ∧ mX43_sectors (w2 i) = updI S.se 0 (S.se S.nw) (0 + i)
    rw [ei, show (0 : Int) + 0 = 0 by decide, updI_s, updI_s]; exact u
  · obtain ⟨x1, x2, x3⟩ := C7.1.2 k k0 k1 kl
    exact ⟨x1, x2, fun i i0 i1 => absurd i1 (by show ¬ i < 0 - 0; omega)⟩
theorem CKD_sync {post : Int → (Nat → Int → Int) → (Nat → Int → Option Nat) → (Nat → Int) → Prop} (O : kdOK kd an ai al ar mX42_disk mX42_count mX42_runs mX42_isFull mX42_places mX42_laid mX42_changed mX42_waiting mX42_states mX42_kept mX43_number mX43_sectors mX63_bytes mX64_to mX64_sector mJ1_modCount mJ2_elementData mJ2_size mJ5_elements mJ5_head mJ5_tail mJ22_cursor mJ22_remaining mJ22_lastRet mJ22_this_0 mJ23_cursor mJ23_lastRet mJ23_expectedModCount mJ23_this_0 sa x S) (H : ∀ ai' ar' mH', kdOK kd an (ai') al (ar') mX42_disk mX42_count mX42_runs mX42_isFull mX42_places mX42_laid mX42_changed mX42_waiting mX42_states mX42_kept mX43_number mX43_sectors mX63_bytes mX64_to mX64_sector mJ1_modCount mJ2_elementData mJ2_size mJ5_elements (mH') mJ5_tail mJ22_cursor mJ22_remaining mJ22_lastRet mJ22_this_0 mJ23_cursor mJ23_lastRet mJ23_expectedModCount mJ23_this_0 sa x (kdSy S).2 → post (kdSy S).1 ai' ar' mH') : wpKD_X42_sync post kd an ai ar mX42_disk mX42_runs mX42_waiting mX42_states mX43_number mX63_bytes mX64_to mX64_sector mJ5_elements mJ5_head mJ5_tail x := by
  have O0 := O
  obtain ⟨Rg, Lt, dq, pq, lq, ls, lb, d1, e1, c1, h1, w1, ws, wb, d2, e2, c2, h2, w2, l, e3, w3, C1, C2, C3, C4, C5, C6, C7, D1, D2, Mo⟩ := O
  have r5 := Rg.2.2.2.2.1
  have r6 := Rg.2.2.2.2.2.1
  unfold kdSy at H
  unfold wpKD_X42_sync
  rw [C1.2.1.2.1]
  refine ⟨fun r0 => ?_, fun r0 => ⟨(S.be - S.fi).toNat + 1, CKD_sy10 (kd := kd) (an := an) (al := al) (mX42_disk := mX42_disk) (mX42_count := mX42_count) (mX42_runs := mX42_runs) (mX42_isFull := mX42_isFull) (mX42_places := mX42_places) (mX42_laid := mX42_laid) (mX42_changed := mX42_changed) (mX42_waiting := mX42_waiting) (mX42_states := mX42_states) (mX42_kept := mX42_kept) (mX43_number := mX43_number) (mX43_sectors := mX43_sectors) (mX63_bytes := mX63_bytes) (mX64_to := mX64_to) (mX64_sector := mX64_sector) (mJ1_modCount := mJ1_modCount) (mJ2_elementData := mJ2_elementData) (mJ2_size := mJ2_size) (mJ5_elements := mJ5_elements) (mJ5_tail := mJ5_tail) (mJ22_cursor := mJ22_cursor) (mJ22_remaining := mJ22_remaining) (mJ22_lastRet := mJ22_lastRet) (mJ22_this_0 := mJ22_this_0) (mJ23_cursor := mJ23_cursor) (mJ23_lastRet := mJ23_lastRet) (mJ23_expectedModCount := mJ23_expectedModCount) (mJ23_this_0 := mJ23_this_0) (sa := sa) (S := S) (M := (S.be - S.fi).toNat) (by omega) (fun ai2 ar2 mH2 O2 => ⟨(S.nw - S.ol).toNat + 1, CKD_sy39 (kd := kd) (an := an) (ai := ai2) (al := al) (mX42_disk := mX42_disk) (mX42_count := mX42_count) (mX42_runs := mX42_runs) (mX42_isFull := mX42_isFull) (mX42_places := mX42_places) (mX42_laid := mX42_laid) (mX42_changed := mX42_changed) (mX42_waiting := mX42_waiting) (mX42_states := mX42_states) (mX42_kept := mX42_kept) (mX43_number := mX43_number) (mX43_sectors := mX43_sectors) (mX63_bytes := mX63_bytes) (mX64_to := mX64_to) (mX64_sector := mX64_sector) (mJ1_modCount := mJ1_modCount) (mJ2_elementData := mJ2_elementData) (mJ2_size := mJ2_size) (mJ5_elements := mJ5_elements) (mJ5_tail := mJ5_tail) (mJ22_cursor := mJ22_cursor) (mJ22_remaining := mJ22_remaining) (mJ22_lastRet := mJ22_lastRet) (mJ22_this_0 := mJ22_this_0) (mJ23_cursor := mJ23_cursor) (mJ23_lastRet := mJ23_lastRet) (mJ23_expectedModCount := mJ23_expectedModCount) (mJ23_this_0 := mJ23_this_0) (sa := sa) (F := kdOn (S.nw - S.ol).toNat (kdSm2 S (S.be - S.fi).toNat)) (fun ar3 mH3 O3 => ?_) _ (kdSm2 S (S.be - S.fi).toNat) _ _ (by show S.ol + ((S.nw - S.ol).toNat : Int) = S.nw; omega) rfl O2⟩) _ 0 _ _ _ (Nat.zero_add _) (by rw [kdSm2_0]; exact O0)⟩⟩
  · rw [if_pos r0] at H
    exact H _ _ _ O0
  · rw [if_neg r0] at H
    rw [kdOn_e] at O3
    have e1' : S.fi + ((S.be - S.fi).toNat : Int) = S.be := by omega
    have e2' : S.ol + ((S.nw - S.ol).toNat : Int) = S.nw := by omega
    unfold kdSm2 kdDF at O3
    rw [e1'] at O3
    generalize kdWm S.dk S.tg S.by' S.fi (S.be - S.fi).toNat = dk2 at H O3
    have O4 : kdOK kd an ai2 al ar3 mX42_disk mX42_count mX42_runs mX42_isFull mX42_places mX42_laid mX42_changed mX42_waiting mX42_states mX42_kept mX43_number mX43_sectors mX63_bytes mX64_to mX64_sector mJ1_modCount mJ2_elementData mJ2_size mJ5_elements mH3 mJ5_tail mJ22_cursor mJ22_remaining mJ22_lastRet mJ22_this_0 mJ23_cursor mJ23_lastRet mJ23_expectedModCount mJ23_this_0 sa x (KS.mk (dk2) (S.lt) (S.op) (S.ld) (S.pl) (S.nu) (S.se) (S.ku) (S.ks) (S.tg) (S.by') (S.ru) (S.fu) (S.ch) (S.be) (S.be) (S.nw) (S.nw) (S.kn) (S.mo)) := by
      have e3' : ((KS.mk (dk2) (S.lt) (S.op) (S.ld) (S.pl) (S.nu) (S.se) (S.ku) (S.ks) (S.tg) (S.by') (S.ru) (S.fu) (S.ch) (S.be) (S.be) (S.ol) (S.nw) (S.kn) (S.mo)) : KS).ol + ((S.nw - S.ol).toNat : Int) = S.nw := e2'
      rw [e3'] at O3
      exact O3
    clear O3
    have HH := H ai2 ar3 mH3 (O4.re rfl rfl)
    obtain ⟨Rg3, _, _, _, _, _, _, _, _, _, _, _, _, _, d23, _, _, _, w23, _, _, _, _, _, _, _, A5, _⟩ := O4
    have A5' : kdC5 kd an ar3 mX42_states mX43_number mX43_sectors mJ5_elements mH3 mJ5_tail x _ _ _ _ w23 S.nw S.nw S.nu S.se := A5
    refine CKD_latest A5' (Int.le_refl _) ?_
    obtain ⟨u1, u2, _⟩ := A5'.2.2 (S.nw - S.nw) (by omega) (Int.le_refl _)
    refine kOn_some ⟨u1, ?_⟩
    unfold wpKD_X43_number
    rw [u2, show S.nw + (S.nw - S.nw) = S.nw by omega]
    exact HH
theorem kdOB.kx0 (O : kdOB kd an ai al ar mX42_disk mX42_count mX42_runs mX42_isFull mX42_places mX42_laid mX42_changed mX42_waiting mX42_states mX42_kept mX43_number mX43_sectors mX63_bytes mX64_to mX64_sector mJ1_modCount mJ2_elementData mJ2_size mJ5_elements mJ5_head mJ5_tail mJ22_cursor mJ22_remaining mJ22_lastRet mJ22_this_0 mJ23_cursor mJ23_lastRet mJ23_expectedModCount mJ23_this_0 sa x S) (K : kdKx (fun _ => False) (fun _ => False) (fun _ => False) kd an ai ar mX63_bytes mX64_to mX64_sector mX43_number mX43_sectors mJ5_elements mJ5_head mJ5_tail kd' an' ai' ar' mB' mO' mS' mN' mU' mE' mH' mT') : kdOB (kd') (an') (ai') al (ar') mX42_disk mX42_count mX42_runs mX42_isFull mX42_places mX42_laid mX42_changed mX42_waiting mX42_states mX42_kept (mN') (mU') (mB') (mO') (mS') mJ1_modCount mJ2_elementData mJ2_size (mE') (mH') (mT') mJ22_cursor mJ22_remaining mJ22_lastRet mJ22_this_0 mJ23_cursor mJ23_lastRet mJ23_expectedModCount mJ23_this_0 sa x S := by
  obtain ⟨dq, pq, lq, ls, lb, d1, e1, c1, h1, w1, ws, wb, d2, e2, c2, h2, w2, l, e3, w3, C1, C2, C3, C4, C5, C6, C7, D1, D2, Mo⟩ := O
  exact ⟨dq, pq, lq, ls, lb, d1, e1, c1, h1, w1, ws, wb, d2, e2, c2, h2, w2, l, e3, w3, C1.kx K id, C2.kx K id, C3.kx K id (fun _ _ _ _ => id), C4.kx K id id (fun _ _ _ => id), C5.kx K id id, C6.kx K (fun _ => id), C7, D1.le K.le C6.2.1.own C4.2.1.1.2.2.1, D2.le K.le C6.2.1.own C5.2.1.1.2.2.1, Mo⟩
theorem kdOB.ru' (O : kdOB kd an ai al ar mX42_disk mX42_count mX42_runs mX42_isFull mX42_places mX42_laid mX42_changed mX42_waiting mX42_states mX42_kept mX43_number mX43_sectors mX63_bytes mX64_to mX64_sector mJ1_modCount mJ2_elementData mJ2_size mJ5_elements mJ5_head mJ5_tail mJ22_cursor mJ22_remaining mJ22_lastRet mJ22_this_0 mJ23_cursor mJ23_lastRet mJ23_expectedModCount mJ23_this_0 sa x S) : kdOB kd an ai al ar mX42_disk mX42_count (va_up mX42_runs x v) mX42_isFull mX42_places mX42_laid mX42_changed mX42_waiting mX42_states mX42_kept mX43_number mX43_sectors mX63_bytes mX64_to mX64_sector mJ1_modCount mJ2_elementData mJ2_size mJ5_elements mJ5_head mJ5_tail mJ22_cursor mJ22_remaining mJ22_lastRet mJ22_this_0 mJ23_cursor mJ23_lastRet mJ23_expectedModCount mJ23_this_0 sa x (KS.mk (S.dk) (S.lt) (S.op) (S.ld) (S.pl) (S.nu) (S.se) (S.ku) (S.ks) (S.tg) (S.by') (v) (S.fu) (S.ch) (S.fi) (S.be) (S.ol) (S.nw) (S.kn) (S.mo)) := by
  obtain ⟨dq, pq, lq, ls, lb, d1, e1, c1, h1, w1, ws, wb, d2, e2, c2, h2, w2, l, e3, w3, C1, C2, C3, C4, C5, C6, C7, D1, D2, Mo⟩ := O
  exact ⟨dq, pq, lq, ls, lb, d1, e1, c1, h1, w1, ws, wb, d2, e2, c2, h2, w2, l, e3, w3, ⟨C1.1, ⟨C1.2.1.1, va_up_self _ _ _, C1.2.1.2.2⟩, C1.2.2⟩, C2, C3, C4, C5, C6, C7, D1, D2, Mo⟩
def kdCu (S : KS) (keep tear : Int) : KS := if S.ru = 0 then S else (KS.mk ((kdBg (KS.mk (kdCd S.dk S.tg S.by' S.fi S.be keep tear) (S.lt) (S.op) (S.ld) (S.pl) (S.nu) (S.se) (S.ku) (S.ks) (S.tg) (S.by') (S.ru) (S.fu) (S.ch) (S.fi) (S.be) (S.ol) (S.nw) (S.kn) (S.mo)) 0 0).dk) ((kdBg (KS.mk (kdCd S.dk S.tg S.by' S.fi S.be keep tear) (S.lt) (S.op) (S.ld) (S.pl) (S.nu) (S.se) (S.ku) (S.ks) (S.tg) (S.by') (S.ru) (S.fu) (S.ch) (S.fi) (S.be) (S.ol) (S.nw) (S.kn) (S.mo)) 0 0).lt) ((kdBg (KS.mk (kdCd S.dk S.tg S.by' S.fi S.be keep tear) (S.lt) (S.op) (S.ld) (S.pl) (S.nu) (S.se) (S.ku) (S.ks) (S.tg) (S.by') (S.ru) (S.fu) (S.ch) (S.fi) (S.be) (S.ol) (S.nw) (S.kn) (S.mo)) 0 0).op) ((kdBg (KS.mk (kdCd S.dk S.tg S.by' S.fi S.be keep tear) (S.lt) (S.op) (S.ld) (S.pl) (S.nu) (S.se) (S.ku) (S.ks) (S.tg) (S.by') (S.ru) (S.fu) (S.ch) (S.fi) (S.be) (S.ol) (S.nw) (S.kn) (S.mo)) 0 0).ld) ((kdBg (KS.mk (kdCd S.dk S.tg S.by' S.fi S.be keep tear) (S.lt) (S.op) (S.ld) (S.pl) (S.nu) (S.se) (S.ku) (S.ks) (S.tg) (S.by') (S.ru) (S.fu) (S.ch) (S.fi) (S.be) (S.ol) (S.nw) (S.kn) (S.mo)) 0 0).pl) ((kdBg (KS.mk (kdCd S.dk S.tg S.by' S.fi S.be keep tear) (S.lt) (S.op) (S.ld) (S.pl) (S.nu) (S.se) (S.ku) (S.ks) (S.tg) (S.by') (S.ru) (S.fu) (S.ch) (S.fi) (S.be) (S.ol) (S.nw) (S.kn) (S.mo)) 0 0).nu) ((kdBg (KS.mk (kdCd S.dk S.tg S.by' S.fi S.be keep tear) (S.lt) (S.op) (S.ld) (S.pl) (S.nu) (S.se) (S.ku) (S.ks) (S.tg) (S.by') (S.ru) (S.fu) (S.ch) (S.fi) (S.be) (S.ol) (S.nw) (S.kn) (S.mo)) 0 0).se) ((kdBg (KS.mk (kdCd S.dk S.tg S.by' S.fi S.be keep tear) (S.lt) (S.op) (S.ld) (S.pl) (S.nu) (S.se) (S.ku) (S.ks) (S.tg) (S.by') (S.ru) (S.fu) (S.ch) (S.fi) (S.be) (S.ol) (S.nw) (S.kn) (S.mo)) 0 0).ku) ((kdBg (KS.mk (kdCd S.dk S.tg S.by' S.fi S.be keep tear) (S.lt) (S.op) (S.ld) (S.pl) (S.nu) (S.se) (S.ku) (S.ks) (S.tg) (S.by') (S.ru) (S.fu) (S.ch) (S.fi) (S.be) (S.ol) (S.nw) (S.kn) (S.mo)) 0 0).ks) ((kdBg (KS.mk (kdCd S.dk S.tg S.by' S.fi S.be keep tear) (S.lt) (S.op) (S.ld) (S.pl) (S.nu) (S.se) (S.ku) (S.ks) (S.tg) (S.by') (S.ru) (S.fu) (S.ch) (S.fi) (S.be) (S.ol) (S.nw) (S.kn) (S.mo)) 0 0).tg) ((kdBg (KS.mk (kdCd S.dk S.tg S.by' S.fi S.be keep tear) (S.lt) (S.op) (S.ld) (S.pl) (S.nu) (S.se) (S.ku) (S.ks) (S.tg) (S.by') (S.ru) (S.fu) (S.ch) (S.fi) (S.be) (S.ol) (S.nw) (S.kn) (S.mo)) 0 0).by') (0) ((kdBg (KS.mk (kdCd S.dk S.tg S.by' S.fi S.be keep tear) (S.lt) (S.op) (S.ld) (S.pl) (S.nu) (S.se) (S.ku) (S.ks) (S.tg) (S.by') (S.ru) (S.fu) (S.ch) (S.fi) (S.be) (S.ol) (S.nw) (S.kn) (S.mo)) 0 0).fu) ((kdBg (KS.mk (kdCd S.dk S.tg S.by' S.fi S.be keep tear) (S.lt) (S.op) (S.ld) (S.pl) (S.nu) (S.se) (S.ku) (S.ks) (S.tg) (S.by') (S.ru) (S.fu) (S.ch) (S.fi) (S.be) (S.ol) (S.nw) (S.kn) (S.mo)) 0 0).ch) ((kdBg (KS.mk (kdCd S.dk S.tg S.by' S.fi S.be keep tear) (S.lt) (S.op) (S.ld) (S.pl) (S.nu) (S.se) (S.ku) (S.ks) (S.tg) (S.by') (S.ru) (S.fu) (S.ch) (S.fi) (S.be) (S.ol) (S.nw) (S.kn) (S.mo)) 0 0).fi) ((kdBg (KS.mk (kdCd S.dk S.tg S.by' S.fi S.be keep tear) (S.lt) (S.op) (S.ld) (S.pl) (S.nu) (S.se) (S.ku) (S.ks) (S.tg) (S.by') (S.ru) (S.fu) (S.ch) (S.fi) (S.be) (S.ol) (S.nw) (S.kn) (S.mo)) 0 0).be) ((kdBg (KS.mk (kdCd S.dk S.tg S.by' S.fi S.be keep tear) (S.lt) (S.op) (S.ld) (S.pl) (S.nu) (S.se) (S.ku) (S.ks) (S.tg) (S.by') (S.ru) (S.fu) (S.ch) (S.fi) (S.be) (S.ol) (S.nw) (S.kn) (S.mo)) 0 0).ol) ((kdBg (KS.mk (kdCd S.dk S.tg S.by' S.fi S.be keep tear) (S.lt) (S.op) (S.ld) (S.pl) (S.nu) (S.se) (S.ku) (S.ks) (S.tg) (S.by') (S.ru) (S.fu) (S.ch) (S.fi) (S.be) (S.ol) (S.nw) (S.kn) (S.mo)) 0 0).nw) ((kdBg (KS.mk (kdCd S.dk S.tg S.by' S.fi S.be keep tear) (S.lt) (S.op) (S.ld) (S.pl) (S.nu) (S.se) (S.ku) (S.ks) (S.tg) (S.by') (S.ru) (S.fu) (S.ch) (S.fi) (S.be) (S.ol) (S.nw) (S.kn) (S.mo)) 0 0).kn) ((kdBg (KS.mk (kdCd S.dk S.tg S.by' S.fi S.be keep tear) (S.lt) (S.op) (S.ld) (S.pl) (S.nu) (S.se) (S.ku) (S.ks) (S.tg) (S.by') (S.ru) (S.fu) (S.ch) (S.fi) (S.be) (S.ol) (S.nw) (S.kn) (S.mo)) 0 0).mo))
end
