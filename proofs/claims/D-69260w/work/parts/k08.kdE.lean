/-! KnowDisk, the component: cut -/
theorem KS.mq_dk {dk : Int → Int} {lt : Int → Int} {op : Int → Int} {ld : Int → Int} {pl : Int → Int} {nu : Int → Int} {se : Int → Int} {ku : Int → Int} {ks : Int → Int} {tg : Int → Int} {by' : Int → Int} {ru : Int} {fu : Int} {ch : Int} {fi : Int} {be : Int} {ol : Int} {nw : Int} {kn : Int} {mo : Int} : KS.dk (KS.mk dk lt op ld pl nu se ku ks tg by' ru fu ch fi be ol nw kn mo) = dk := (Eq.refl _).trans (Eq.refl _)
theorem KS.mq_lt {dk : Int → Int} {lt : Int → Int} {op : Int → Int} {ld : Int → Int} {pl : Int → Int} {nu : Int → Int} {se : Int → Int} {ku : Int → Int} {ks : Int → Int} {tg : Int → Int} {by' : Int → Int} {ru : Int} {fu : Int} {ch : Int} {fi : Int} {be : Int} {ol : Int} {nw : Int} {kn : Int} {mo : Int} : KS.lt (KS.mk dk lt op ld pl nu se ku ks tg by' ru fu ch fi be ol nw kn mo) = lt := (Eq.refl _).trans (Eq.refl _)
theorem KS.mq_op {dk : Int → Int} {lt : Int → Int} {op : Int → Int} {ld : Int → Int} {pl : Int → Int} {nu : Int → Int} {se : Int → Int} {ku : Int → Int} {ks : Int → Int} {tg : Int → Int} {by' : Int → Int} {ru : Int} {fu : Int} {ch : Int} {fi : Int} {be : Int} {ol : Int} {nw : Int} {kn : Int} {mo : Int} : KS.op (KS.mk dk lt op ld pl nu se ku ks tg by' ru fu ch fi be ol nw kn mo) = op := (Eq.refl _).trans (Eq.refl _)
theorem KS.mq_ld {dk : Int → Int} {lt : Int → Int} {op : Int → Int} {ld : Int → Int} {pl : Int → Int} {nu : Int → Int} {se : Int → Int} {ku : Int → Int} {ks : Int → Int} {tg : Int → Int} {by' : Int → Int} {ru : Int} {fu : Int} {ch : Int} {fi : Int} {be : Int} {ol : Int} {nw : Int} {kn : Int} {mo : Int} : KS.ld (KS.mk dk lt op ld pl nu se ku ks tg by' ru fu ch fi be ol nw kn mo) = ld := (Eq.refl _).trans (Eq.refl _)
theorem KS.mq_pl {dk : Int → Int} {lt : Int → Int} {op : Int → Int} {ld : Int → Int} {pl : Int → Int} {nu : Int → Int} {se : Int → Int} {ku : Int → Int} {ks : Int → Int} {tg : Int → Int} {by' : Int → Int} {ru : Int} {fu : Int} {ch : Int} {fi : Int} {be : Int} {ol : Int} {nw : Int} {kn : Int} {mo : Int} : KS.pl (KS.mk dk lt op ld pl nu se ku ks tg by' ru fu ch fi be ol nw kn mo) = pl := (Eq.refl _).trans (Eq.refl _)
theorem KS.mq_nu {dk : Int → Int} {lt : Int → Int} {op : Int → Int} {ld : Int → Int} {pl : Int → Int} {nu : Int → Int} {se : Int → Int} {ku : Int → Int} {ks : Int → Int} {tg : Int → Int} {by' : Int → Int} {ru : Int} {fu : Int} {ch : Int} {fi : Int} {be : Int} {ol : Int} {nw : Int} {kn : Int} {mo : Int} : KS.nu (KS.mk dk lt op ld pl nu se ku ks tg by' ru fu ch fi be ol nw kn mo) = nu := (Eq.refl _).trans (Eq.refl _)
theorem KS.mq_se {dk : Int → Int} {lt : Int → Int} {op : Int → Int} {ld : Int → Int} {pl : Int → Int} {nu : Int → Int} {se : Int → Int} {ku : Int → Int} {ks : Int → Int} {tg : Int → Int} {by' : Int → Int} {ru : Int} {fu : Int} {ch : Int} {fi : Int} {be : Int} {ol : Int} {nw : Int} {kn : Int} {mo : Int} : KS.se (KS.mk dk lt op ld pl nu se ku ks tg by' ru fu ch fi be ol nw kn mo) = se := (Eq.refl _).trans (Eq.refl _)
theorem KS.mq_ku {dk : Int → Int} {lt : Int → Int} {op : Int → Int} {ld : Int → Int} {pl : Int → Int} {nu : Int → Int} {se : Int → Int} {ku : Int → Int} {ks : Int → Int} {tg : Int → Int} {by' : Int → Int} {ru : Int} {fu : Int} {ch : Int} {fi : Int} {be : Int} {ol : Int} {nw : Int} {kn : Int} {mo : Int} : KS.ku (KS.mk dk lt op ld pl nu se ku ks tg by' ru fu ch fi be ol nw kn mo) = ku := (Eq.refl _).trans (Eq.refl _)
theorem KS.mq_ks {dk : Int → Int} {lt : Int → Int} {op : Int → Int} {ld : Int → Int} {pl : Int → Int} {nu : Int → Int} {se : Int → Int} {ku : Int → Int} {ks : Int → Int} {tg : Int → Int} {by' : Int → Int} {ru : Int} {fu : Int} {ch : Int} {fi : Int} {be : Int} {ol : Int} {nw : Int} {kn : Int} {mo : Int} : KS.ks (KS.mk dk lt op ld pl nu se ku ks tg by' ru fu ch fi be ol nw kn mo) = ks := (Eq.refl _).trans (Eq.refl _)
theorem KS.mq_tg {dk : Int → Int} {lt : Int → Int} {op : Int → Int} {ld : Int → Int} {pl : Int → Int} {nu : Int → Int} {se : Int → Int} {ku : Int → Int} {ks : Int → Int} {tg : Int → Int} {by' : Int → Int} {ru : Int} {fu : Int} {ch : Int} {fi : Int} {be : Int} {ol : Int} {nw : Int} {kn : Int} {mo : Int} : KS.tg (KS.mk dk lt op ld pl nu se ku ks tg by' ru fu ch fi be ol nw kn mo) = tg := (Eq.refl _).trans (Eq.refl _)
theorem KS.mq_by {dk : Int → Int} {lt : Int → Int} {op : Int → Int} {ld : Int → Int} {pl : Int → Int} {nu : Int → Int} {se : Int → Int} {ku : Int → Int} {ks : Int → Int} {tg : Int → Int} {by' : Int → Int} {ru : Int} {fu : Int} {ch : Int} {fi : Int} {be : Int} {ol : Int} {nw : Int} {kn : Int} {mo : Int} : KS.by' (KS.mk dk lt op ld pl nu se ku ks tg by' ru fu ch fi be ol nw kn mo) = by' := (Eq.refl _).trans (Eq.refl _)
theorem KS.mq_ru {dk : Int → Int} {lt : Int → Int} {op : Int → Int} {ld : Int → Int} {pl : Int → Int} {nu : Int → Int} {se : Int → Int} {ku : Int → Int} {ks : Int → Int} {tg : Int → Int} {by' : Int → Int} {ru : Int} {fu : Int} {ch : Int} {fi : Int} {be : Int} {ol : Int} {nw : Int} {kn : Int} {mo : Int} : KS.ru (KS.mk dk lt op ld pl nu se ku ks tg by' ru fu ch fi be ol nw kn mo) = ru := (Eq.refl _).trans (Eq.refl _)
theorem KS.mq_fu {dk : Int → Int} {lt : Int → Int} {op : Int → Int} {ld : Int → Int} {pl : Int → Int} {nu : Int → Int} {se : Int → Int} {ku : Int → Int} {ks : Int → Int} {tg : Int → Int} {by' : Int → Int} {ru : Int} {fu : Int} {ch : Int} {fi : Int} {be : Int} {ol : Int} {nw : Int} {kn : Int} {mo : Int} : KS.fu (KS.mk dk lt op ld pl nu se ku ks tg by' ru fu ch fi be ol nw kn mo) = fu := (Eq.refl _).trans (Eq.refl _)
theorem KS.mq_ch {dk : Int → Int} {lt : Int → Int} {op : Int → Int} {ld : Int → Int} {pl : Int → Int} {nu : Int → Int} {se : Int → Int} {ku : Int → Int} {ks : Int → Int} {tg : Int → Int} {by' : Int → Int} {ru : Int} {fu : Int} {ch : Int} {fi : Int} {be : Int} {ol : Int} {nw : Int} {kn : Int} {mo : Int} : KS.ch (KS.mk dk lt op ld pl nu se ku ks tg by' ru fu ch fi be ol nw kn mo) = ch := (Eq.refl _).trans (Eq.refl _)
theorem KS.mq_fi {dk : Int → Int} {lt : Int → Int} {op : Int → Int} {ld : Int → Int} {pl : Int → Int} {nu : Int → Int} {se : Int → Int} {ku : Int → Int} {ks : Int → Int} {tg : Int → Int} {by' : Int → Int} {ru : Int} {fu : Int} {ch : Int} {fi : Int} {be : Int} {ol : Int} {nw : Int} {kn : Int} {mo : Int} : KS.fi (KS.mk dk lt op ld pl nu se ku ks tg by' ru fu ch fi be ol nw kn mo) = fi := (Eq.refl _).trans (Eq.refl _)
theorem KS.mq_be {dk : Int → Int} {lt : Int → Int} {op : Int → Int} {ld : Int → Int} {pl : Int → Int} {nu : Int → Int} {se : Int → Int} {ku : Int → Int} {ks : Int → Int} {tg : Int → Int} {by' : Int → Int} {ru : Int} {fu : Int} {ch : Int} {fi : Int} {be : Int} {ol : Int} {nw : Int} {kn : Int} {mo : Int} : KS.be (KS.mk dk lt op ld pl nu se ku ks tg by' ru fu ch fi be ol nw kn mo) = be := (Eq.refl _).trans (Eq.refl _)
theorem KS.mq_ol {dk : Int → Int} {lt : Int → Int} {op : Int → Int} {ld : Int → Int} {pl : Int → Int} {nu : Int → Int} {se : Int → Int} {ku : Int → Int} {ks : Int → Int} {tg : Int → Int} {by' : Int → Int} {ru : Int} {fu : Int} {ch : Int} {fi : Int} {be : Int} {ol : Int} {nw : Int} {kn : Int} {mo : Int} : KS.ol (KS.mk dk lt op ld pl nu se ku ks tg by' ru fu ch fi be ol nw kn mo) = ol := (Eq.refl _).trans (Eq.refl _)
theorem KS.mq_nw {dk : Int → Int} {lt : Int → Int} {op : Int → Int} {ld : Int → Int} {pl : Int → Int} {nu : Int → Int} {se : Int → Int} {ku : Int → Int} {ks : Int → Int} {tg : Int → Int} {by' : Int → Int} {ru : Int} {fu : Int} {ch : Int} {fi : Int} {be : Int} {ol : Int} {nw : Int} {kn : Int} {mo : Int} : KS.nw (KS.mk dk lt op ld pl nu se ku ks tg by' ru fu ch fi be ol nw kn mo) = nw := (Eq.refl _).trans (Eq.refl _)
theorem KS.mq_kn {dk : Int → Int} {lt : Int → Int} {op : Int → Int} {ld : Int → Int} {pl : Int → Int} {nu : Int → Int} {se : Int → Int} {ku : Int → Int} {ks : Int → Int} {tg : Int → Int} {by' : Int → Int} {ru : Int} {fu : Int} {ch : Int} {fi : Int} {be : Int} {ol : Int} {nw : Int} {kn : Int} {mo : Int} : KS.kn (KS.mk dk lt op ld pl nu se ku ks tg by' ru fu ch fi be ol nw kn mo) = kn := (Eq.refl _).trans (Eq.refl _)
theorem KS.mq_mo {dk : Int → Int} {lt : Int → Int} {op : Int → Int} {ld : Int → Int} {pl : Int → Int} {nu : Int → Int} {se : Int → Int} {ku : Int → Int} {ks : Int → Int} {tg : Int → Int} {by' : Int → Int} {ru : Int} {fu : Int} {ch : Int} {fi : Int} {be : Int} {ol : Int} {nw : Int} {kn : Int} {mo : Int} : KS.mo (KS.mk dk lt op ld pl nu se ku ks tg by' ru fu ch fi be ol nw kn mo) = mo := (Eq.refl _).trans (Eq.refl _)
theorem kdCm_b {fi be keep : Int} (h : fi ≤ be) : (kdCm fi be keep : Int) ≤ be - fi ∧ (keep ≤ 0 → kdCm fi be keep = 0) ∧ (0 < keep → keep < be - fi → (kdCm fi be keep : Int) = keep) ∧ (0 < keep → ¬ keep < be - fi → (kdCm fi be keep : Int) = be - fi) := by
  unfold kdCm
  refine ⟨?_, fun w => by rw [if_pos w], fun a b => by rw [if_neg (by omega), if_pos b]; omega, fun a b => by rw [if_neg (by omega), if_neg b]; omega⟩
  split
  · show ((0 : Nat) : Int) ≤ _; omega
  · split <;> omega
section
variable {kd : Nat → Nat} {an : Nat → Nat} {ai : Nat → Int → Int} {al : Nat → Int → Int} {ar : Nat → Int → Option Nat} {mX42_disk : Nat → Option Nat} {mX42_count : Nat → Int} {mX42_runs : Nat → Int} {mX42_isFull : Nat → Int} {mX42_places : Nat → Option Nat} {mX42_laid : Nat → Option Nat} {mX42_changed : Nat → Int} {mX42_waiting : Nat → Option Nat} {mX42_states : Nat → Option Nat} {mX42_kept : Nat → Option Nat} {mX43_number : Nat → Int} {mX43_sectors : Nat → Int} {mX63_bytes : Nat → Option Nat} {mX64_to : Nat → Int} {mX64_sector : Nat → Option Nat} {mJ1_modCount : Nat → Int} {mJ2_elementData : Nat → Option Nat} {mJ2_size : Nat → Int} {mJ5_elements : Nat → Option Nat} {mJ5_head : Nat → Int} {mJ5_tail : Nat → Int} {mJ22_cursor : Nat → Int} {mJ22_remaining : Nat → Int} {mJ22_lastRet : Nat → Int} {mJ22_this_0 : Nat → Option Nat} {mJ23_cursor : Nat → Int} {mJ23_lastRet : Nat → Int} {mJ23_expectedModCount : Nat → Int} {mJ23_this_0 : Nat → Option Nat} {sa : Nat → Nat} {d e q x l dq pq lq d1 e1 d2 e2 e3 s b : Nat} {cap hd n i c1 h1 c2 h2 : Int} {el f ls lb ws wb w1 w2 w3 w : Int → Nat} {MC MS kc ks' : Nat} {A B : Prop} {dk op lt ld pl tg by' nu se ku ks : Int → Int} {fi be ol nw kn k p v ru fu ch lo : Int} {fn : Int → Int} {P : Nat → Prop} {kd' an' : Nat → Nat} {ai' : Nat → Int → Int} {ar' : Nat → Int → Option Nat} {mB' mS' mE' : Nat → Option Nat} {mO' mN' mU' mH' mT' : Nat → Int} {S : KS} {a to fr nr nn ss keep tear : Int} {src op' ld' : Int → Int} {e' sp wq : Nat} {Q Qr Qd : Nat → Prop}
theorem CKD_cu10 {K : (Nat → Int → Int) → (Nat → Int → Option Nat) → (Nat → Int) → Prop} {M : Nat} (hk : kc ≤ MC ∧ ks' ≤ MS) (hM : M = kdCm S.fi S.be keep) (hr : 0 ≤ S.fi ∧ S.fi ≤ S.be ∧ S.be ≤ 1200) (hK : ∀ (ai : Nat → Int → Int) (ar : Nat → Int → Option Nat) (mJ5_head : Nat → Int), kdOK kd an ai al ar mX42_disk mX42_count mX42_runs mX42_isFull mX42_places mX42_laid mX42_changed mX42_waiting mX42_states mX42_kept mX43_number mX43_sectors mX63_bytes mX64_to mX64_sector mJ1_modCount mJ2_elementData mJ2_size mJ5_elements mJ5_head mJ5_tail mJ22_cursor mJ22_remaining mJ22_lastRet mJ22_this_0 mJ23_cursor mJ23_lastRet mJ23_expectedModCount mJ23_this_0 sa x (kdSm2 S M) → K ai ar mJ5_head) : ∀ (j m : Nat) (ai : Nat → Int → Int) (ar : Nat → Int → Option Nat) (mJ5_head : Nat → Int), (m : Int) + j = S.be - S.fi → m ≤ M → kdOK kd an ai al ar mX42_disk mX42_count mX42_runs mX42_isFull mX42_places mX42_laid mX42_changed mX42_waiting mX42_states mX42_kept mX43_number mX43_sectors mX63_bytes mX64_to mX64_sector mJ1_modCount mJ2_elementData mJ2_size mJ5_elements mJ5_head mJ5_tail mJ22_cursor mJ22_remaining mJ22_lastRet mJ22_this_0 mJ23_cursor mJ23_lastRet mJ23_expectedModCount mJ23_this_0 sa x (kdSm2 S m) → wKD_X42_cut_10 MC MS K x keep kd an mX42_disk mX42_waiting mX63_bytes mX64_to mX64_sector mJ5_elements mJ5_tail kc ks' (j + 1) (m : Int) ai ar mJ5_head := fun j => by
  have cb := kdCm_b (keep := keep) hr.2.1
  rw [← hM] at cb
  induction j with
  | zero =>
    intro m ai ar mJ5_head hm hmM O
    have O0 := O
    rw [wKD_X42_cut_10]
    obtain ⟨Rg, Lt, dq, pq, lq, ls, lb, d1, e1, c1, h1, w1, ws, wb, d2, e2, c2, h2, w2, l, e3, w3, C1, C2, C3, C4, C5, C6, C7, D1, D2, Mo⟩ := O
    have e : m = M := by omega
    subst e
    refine ⟨fun _ => hK _ _ _ O0, fun w => kOn_of C4.1 ⟨C4.2.1.1.1, hk, CKD_dempB C4.2.1 (fun _ => hK _ _ _ O0) (fun w => absurd ?_ w)⟩⟩
    show S.be - (S.fi + (m : Int)) = 0
    omega
  | succ j ih =>
    intro m ai ar mJ5_head hm hmM O
    have O0 := O
    rw [wKD_X42_cut_10]
    have lt1 : (kdSm2 S m).fi < (kdSm2 S m).be := by show S.fi + (m : Int) < S.be; omega
    obtain ⟨d, w, ed, kd6, kw, hp⟩ := CKD_poll O.2.2 lt1 (O.1.2.1 _ (Int.le_refl _) lt1)
    obtain ⟨Rg, Lt, dq, pq, lq, ls, lb, d1, e1, c1, h1, w1, ws, wb, d2, e2, c2, h2, w2, l, e3, w3, C1, C2, C3, C4, C5, C6, C7, D1, D2, Mo⟩ := O
    have e : d = d1 := Option.some.inj (ed.symm.trans C4.1)
    rw [e] at hp
    refine ⟨fun w1 => ?_, fun w1 => kOn_of C4.1 ⟨C4.2.1.1.1, hk, CKD_dempB C4.2.1 (fun w => absurd w ?_) (fun _ => ⟨hk, hp _ (fun ar' mH' hw => kOn_some ⟨kw, hk, hw 32 (by decide) (by decide) _ (fun ai' O2 => ⟨by omega, fun x3 ex3 => ?_⟩)⟩)⟩)⟩⟩
    · have e2 : m = M := by omega
      subst e2
      exact hK _ _ _ O0
    · show ¬ S.be - (S.fi + (m : Int)) = 0
      omega
    · have I := ih (m + 1) ai' ar' mH' (by omega) (by omega) (by rw [← kdSm2_s]; exact ⟨O0.1.st lt1, O0.2.1.st lt1, O2⟩)
      rw [show ((m + 1 : Nat) : Int) = (m : Int) + 1 by omega, ← ex3] at I
      exact I
theorem kdCt_e : (if 0 < (if 32 < tear then 32 else tear) then (if 32 < tear then 32 else tear) else 0) = kdCt tear := by
  unfold kdCt
  by_cases w : 32 < tear
  · rw [if_pos w, if_pos (by decide), if_neg (by omega)]
  · rw [if_neg w]
    by_cases w2 : 0 < tear
    · rw [if_pos w2, if_neg (by omega)]
    · rw [if_neg w2]
      by_cases w3 : tear < 0
      · rw [if_pos w3]
      · rw [if_neg w3]; omega
theorem kdCt_b : 0 ≤ kdCt tear ∧ kdCt tear ≤ 32 := by
  unfold kdCt
  split
  · decide
  · split <;> omega
theorem kdCu_e {d : Int → Int} {f : Int} : kdBg (KS.mk ((kdDF S d f).dk) ((kdDF S d f).lt) ((kdDF S d f).op) ((kdDF S d f).ld) ((kdDF S d f).pl) ((kdDF S d f).nu) ((kdDF S d f).se) ((kdDF S d f).ku) ((kdDF S d f).ks) ((kdDF S d f).tg) ((kdDF S d f).by') (0) ((kdDF S d f).fu) ((kdDF S d f).ch) ((kdDF S d f).fi) ((kdDF S d f).be) ((kdDF S d f).ol) ((kdDF S d f).nw) ((kdDF S d f).kn) ((kdDF S d f).mo)) 0 0 = (KS.mk ((kdBg (KS.mk (d) (S.lt) (S.op) (S.ld) (S.pl) (S.nu) (S.se) (S.ku) (S.ks) (S.tg) (S.by') (S.ru) (S.fu) (S.ch) (S.fi) (S.be) (S.ol) (S.nw) (S.kn) (S.mo)) 0 0).dk) ((kdBg (KS.mk (d) (S.lt) (S.op) (S.ld) (S.pl) (S.nu) (S.se) (S.ku) (S.ks) (S.tg) (S.by') (S.ru) (S.fu) (S.ch) (S.fi) (S.be) (S.ol) (S.nw) (S.kn) (S.mo)) 0 0).lt) ((kdBg (KS.mk (d) (S.lt) (S.op) (S.ld) (S.pl) (S.nu) (S.se) (S.ku) (S.ks) (S.tg) (S.by') (S.ru) (S.fu) (S.ch) (S.fi) (S.be) (S.ol) (S.nw) (S.kn) (S.mo)) 0 0).op) ((kdBg (KS.mk (d) (S.lt) (S.op) (S.ld) (S.pl) (S.nu) (S.se) (S.ku) (S.ks) (S.tg) (S.by') (S.ru) (S.fu) (S.ch) (S.fi) (S.be) (S.ol) (S.nw) (S.kn) (S.mo)) 0 0).ld) ((kdBg (KS.mk (d) (S.lt) (S.op) (S.ld) (S.pl) (S.nu) (S.se) (S.ku) (S.ks) (S.tg) (S.by') (S.ru) (S.fu) (S.ch) (S.fi) (S.be) (S.ol) (S.nw) (S.kn) (S.mo)) 0 0).pl) ((kdBg (KS.mk (d) (S.lt) (S.op) (S.ld) (S.pl) (S.nu) (S.se) (S.ku) (S.ks) (S.tg) (S.by') (S.ru) (S.fu) (S.ch) (S.fi) (S.be) (S.ol) (S.nw) (S.kn) (S.mo)) 0 0).nu) ((kdBg (KS.mk (d) (S.lt) (S.op) (S.ld) (S.pl) (S.nu) (S.se) (S.ku) (S.ks) (S.tg) (S.by') (S.ru) (S.fu) (S.ch) (S.fi) (S.be) (S.ol) (S.nw) (S.kn) (S.mo)) 0 0).se) ((kdBg (KS.mk (d) (S.lt) (S.op) (S.ld) (S.pl) (S.nu) (S.se) (S.ku) (S.ks) (S.tg) (S.by') (S.ru) (S.fu) (S.ch) (S.fi) (S.be) (S.ol) (S.nw) (S.kn) (S.mo)) 0 0).ku) ((kdBg (KS.mk (d) (S.lt) (S.op) (S.ld) (S.pl) (S.nu) (S.se) (S.ku) (S.ks) (S.tg) (S.by') (S.ru) (S.fu) (S.ch) (S.fi) (S.be) (S.ol) (S.nw) (S.kn) (S.mo)) 0 0).ks) ((kdBg (KS.mk (d) (S.lt) (S.op) (S.ld) (S.pl) (S.nu) (S.se) (S.ku) (S.ks) (S.tg) (S.by') (S.ru) (S.fu) (S.ch) (S.fi) (S.be) (S.ol) (S.nw) (S.kn) (S.mo)) 0 0).tg) ((kdBg (KS.mk (d) (S.lt) (S.op) (S.ld) (S.pl) (S.nu) (S.se) (S.ku) (S.ks) (S.tg) (S.by') (S.ru) (S.fu) (S.ch) (S.fi) (S.be) (S.ol) (S.nw) (S.kn) (S.mo)) 0 0).by') (0) ((kdBg (KS.mk (d) (S.lt) (S.op) (S.ld) (S.pl) (S.nu) (S.se) (S.ku) (S.ks) (S.tg) (S.by') (S.ru) (S.fu) (S.ch) (S.fi) (S.be) (S.ol) (S.nw) (S.kn) (S.mo)) 0 0).fu) ((kdBg (KS.mk (d) (S.lt) (S.op) (S.ld) (S.pl) (S.nu) (S.se) (S.ku) (S.ks) (S.tg) (S.by') (S.ru) (S.fu) (S.ch) (S.fi) (S.be) (S.ol) (S.nw) (S.kn) (S.mo)) 0 0).ch) ((kdBg (KS.mk (d) (S.lt) (S.op) (S.ld) (S.pl) (S.nu) (S.se) (S.ku) (S.ks) (S.tg) (S.by') (S.ru) (S.fu) (S.ch) (S.fi) (S.be) (S.ol) (S.nw) (S.kn) (S.mo)) 0 0).fi) ((kdBg (KS.mk (d) (S.lt) (S.op) (S.ld) (S.pl) (S.nu) (S.se) (S.ku) (S.ks) (S.tg) (S.by') (S.ru) (S.fu) (S.ch) (S.fi) (S.be) (S.ol) (S.nw) (S.kn) (S.mo)) 0 0).be) ((kdBg (KS.mk (d) (S.lt) (S.op) (S.ld) (S.pl) (S.nu) (S.se) (S.ku) (S.ks) (S.tg) (S.by') (S.ru) (S.fu) (S.ch) (S.fi) (S.be) (S.ol) (S.nw) (S.kn) (S.mo)) 0 0).ol) ((kdBg (KS.mk (d) (S.lt) (S.op) (S.ld) (S.pl) (S.nu) (S.se) (S.ku) (S.ks) (S.tg) (S.by') (S.ru) (S.fu) (S.ch) (S.fi) (S.be) (S.ol) (S.nw) (S.kn) (S.mo)) 0 0).nw) ((kdBg (KS.mk (d) (S.lt) (S.op) (S.ld) (S.pl) (S.nu) (S.se) (S.ku) (S.ks) (S.tg) (S.by') (S.ru) (S.fu) (S.ch) (S.fi) (S.be) (S.ol) (S.nw) (S.kn) (S.mo)) 0 0).kn) ((kdBg (KS.mk (d) (S.lt) (S.op) (S.ld) (S.pl) (S.nu) (S.se) (S.ku) (S.ks) (S.tg) (S.by') (S.ru) (S.fu) (S.ch) (S.fi) (S.be) (S.ol) (S.nw) (S.kn) (S.mo)) 0 0).mo)) := by
  simp only [kdBg, kdDF, KS.mq_dk, KS.mq_lt, KS.mq_op, KS.mq_ld, KS.mq_pl, KS.mq_nu, KS.mq_se, KS.mq_ku, KS.mq_ks, KS.mq_tg, KS.mq_by, KS.mq_ru, KS.mq_fu, KS.mq_ch, KS.mq_fi, KS.mq_be, KS.mq_ol, KS.mq_nw, KS.mq_kn, KS.mq_mo]
theorem CKD_cut {post : (Nat → Nat) → (Nat → Nat) → (Nat → Int → Int) → (Nat → Int → Option Nat) → (Nat → Int) → (Nat → Int) → (Nat → Int) → (Nat → Int) → (Nat → Int) → (Nat → Int) → (Nat → Option Nat) → (Nat → Int) → (Nat → Int) → Prop} (hM : 2 ≤ MC ∧ 12 ≤ MS) (hmo : S.mo < 90000) (O : kdOK kd an ai al ar mX42_disk mX42_count mX42_runs mX42_isFull mX42_places mX42_laid mX42_changed mX42_waiting mX42_states mX42_kept mX43_number mX43_sectors mX63_bytes mX64_to mX64_sector mJ1_modCount mJ2_elementData mJ2_size mJ5_elements mJ5_head mJ5_tail mJ22_cursor mJ22_remaining mJ22_lastRet mJ22_this_0 mJ23_cursor mJ23_lastRet mJ23_expectedModCount mJ23_this_0 sa x S) (H : ∀ kd' an' ai' ar' R' G' mN' mU' M' Z' mE' mH' mT', kdOK (kd') (an') (ai') al (ar') mX42_disk mX42_count (R') mX42_isFull mX42_places mX42_laid (G') mX42_waiting mX42_states mX42_kept (mN') (mU') mX63_bytes mX64_to mX64_sector (M') mJ2_elementData (Z') (mE') (mH') (mT') mJ22_cursor mJ22_remaining mJ22_lastRet mJ22_this_0 mJ23_cursor mJ23_lastRet mJ23_expectedModCount mJ23_this_0 sa x (kdCu S keep tear) → post kd' an' ai' ar' R' G' mN' mU' M' Z' mE' mH' mT') : wpKD_X42_cut MC MS post kd an ai ar mX42_disk mX42_runs mX42_places mX42_laid mX42_changed mX42_waiting mX42_states mX42_kept mX43_number mX43_sectors mX63_bytes mX64_to mX64_sector mJ1_modCount mJ2_elementData mJ2_size mJ5_elements mJ5_head mJ5_tail sa x keep tear := by
  have O0 := O
  have rr := O.1.2.2.2.2.1
  have hk4 : S.kn ≤ 4 := O.1.2.2.2.2.2.2.2
  have eru := O.2.2
  obtain ⟨Rg, Lt, dq, pq, lq, ls, lb, d1, e1, c1, h1, w1, ws, wb, d2, e2, c2, h2, w2, l, e3, w3, C1, C2, C3, C4, C5, C6, C7, D1, D2, Mo⟩ := O
  unfold wpKD_X42_cut
  rw [C1.2.1.2.1]
  unfold kdCu kdCd at H
  obtain ⟨M, hM2⟩ : ∃ M, M = kdCm S.fi S.be keep := ⟨_, rfl⟩
  rw [← hM2] at H
  obtain ⟨ct, hct⟩ : ∃ ct, ct = kdCt tear := ⟨_, rfl⟩
  rw [← hct] at H
  have cb := kdCm_b (keep := keep) rr.2.1
  rw [← hM2] at cb
  have ctb := kdCt_b (tear := tear)
  rw [← hct] at ctb
  refine ⟨fun r0 => ?_, fun r0 => ⟨(S.be - S.fi).toNat + 1, CKD_cu10 (kd := kd) (an := an) (al := al) (mX42_disk := mX42_disk) (mX42_count := mX42_count) (mX42_runs := mX42_runs) (mX42_isFull := mX42_isFull) (mX42_places := mX42_places) (mX42_laid := mX42_laid) (mX42_changed := mX42_changed) (mX42_waiting := mX42_waiting) (mX42_states := mX42_states) (mX42_kept := mX42_kept) (mX43_number := mX43_number) (mX43_sectors := mX43_sectors) (mX63_bytes := mX63_bytes) (mX64_to := mX64_to) (mX64_sector := mX64_sector) (mJ1_modCount := mJ1_modCount) (mJ2_elementData := mJ2_elementData) (mJ2_size := mJ2_size) (mJ5_elements := mJ5_elements) (mJ5_tail := mJ5_tail) (mJ22_cursor := mJ22_cursor) (mJ22_remaining := mJ22_remaining) (mJ22_lastRet := mJ22_lastRet) (mJ22_this_0 := mJ22_this_0) (mJ23_cursor := mJ23_cursor) (mJ23_lastRet := mJ23_lastRet) (mJ23_expectedModCount := mJ23_expectedModCount) (mJ23_this_0 := mJ23_this_0) (sa := sa) (S := S) (M := M) (by omega) hM2 rr (fun ai2 ar2 mH2 O2 => ?_) (S.be - S.fi).toNat 0 _ _ _ (by omega) (Nat.zero_le _) (by rw [kdSm2_0]; exact O0)⟩⟩
  · rw [if_pos r0] at H
    exact ⟨by omega, by omega, H _ _ _ _ _ _ _ _ _ _ _ _ _ O0⟩
  rw [if_neg r0] at H
  unfold wKD_X42_cut_47
  have O2b := O2.2.2
  by_cases lt1 : S.fi + (M : Int) < S.be
  · rw [if_pos lt1] at H
    obtain ⟨d, w, ed, kd6, kw, hp⟩ := CKD_poll O2b lt1 (O2.1.2.1 _ (Int.le_refl _) lt1)
    obtain ⟨_, _, _, _, _, _, _, d15, _, _, _, _, _, _, _, _, _, _, _, _, _, _, _, _, _, A4, _⟩ := O2
    have e : d = d15 := Option.some.inj (ed.symm.trans A4.1)
    rw [e] at hp
    refine kOn_of A4.1 ⟨A4.2.1.1.1, by omega, CKD_dempB A4.2.1 (fun w => absurd w ?_) (fun _ => ⟨by omega, hp _ (fun ar3 mH3 hw => kOn_some ⟨kw, by omega, by omega, ?_⟩)⟩)⟩
    · show ¬ S.be - (S.fi + (M : Int)) = 0
      omega
    rw [kdCt_e, ← hct]
    refine hw ct ctb.1 ctb.2 _ (fun ai3 O3 => ?_)
    rw [kdSp_e] at O3
    generalize kdWr (kdWm S.dk S.tg S.by' S.fi M) S.tg S.by' (S.fi + (M : Int)) ct = dd at H O3
    generalize S.fi + (M : Int) + 1 = ff at O3
    have EQ := kdCu_e (S := S) (d := dd) (f := ff)
    · rw [← EQ] at H
      intro R' eR
      refine ⟨by omega, fun q hq mN eN mU eU => ⟨by omega, ?_⟩⟩
      unfold wpKD_X43_init wpKD_J7_init
      intro mN2 eN2 mU2 eU2
      rw [eN, va_up_up] at eN2
      rw [eU, va_up_up] at eU2
      have K : kdKx (fun _ => False) (fun _ => False) (fun _ => False) kd an ai3 ar3 mX63_bytes mX64_to mX64_sector mX43_number mX43_sectors mJ5_elements mH3 mJ5_tail (va_up kd q 2) an ai3 ar3 mX63_bytes mX64_to mX64_sector mN2 mU2 mJ5_elements mH3 mJ5_tail := fun r hr => by
        have n1 : ¬ r = q := fun z => hr (by rw [z]; exact hq)
        exact ⟨⟨va_up_ne _ _ n1, rfl, rfl⟩, ⟨rfl, rfl⟩, ⟨by rw [eN2]; exact va_up_ne _ _ n1, by rw [eU2]; exact va_up_ne _ _ n1⟩, fun _ => rfl, fun _ => rfl, fun _ => ⟨rfl, rfl, rfl⟩⟩
      have O4 := (O3.kx0 K).ru' (v := 0)
      rw [eR]
      obtain ⟨U, hU⟩ : ∃ U, U = (KS.mk ((kdDF S dd ff).dk) ((kdDF S dd ff).lt) ((kdDF S dd ff).op) ((kdDF S dd ff).ld) ((kdDF S dd ff).pl) ((kdDF S dd ff).nu) ((kdDF S dd ff).se) ((kdDF S dd ff).ku) ((kdDF S dd ff).ks) ((kdDF S dd ff).tg) ((kdDF S dd ff).by') (0) ((kdDF S dd ff).fu) ((kdDF S dd ff).ch) ((kdDF S dd ff).fi) ((kdDF S dd ff).be) ((kdDF S dd ff).ol) ((kdDF S dd ff).nw) ((kdDF S dd ff).kn) ((kdDF S dd ff).mo)) := ⟨_, rfl⟩
      have hmo' : U.mo < 90000 := by rw [hU]; simp only [kdDF, KS.mq_dk, KS.mq_lt, KS.mq_op, KS.mq_ld, KS.mq_pl, KS.mq_nu, KS.mq_se, KS.mq_ku, KS.mq_ks, KS.mq_tg, KS.mq_by, KS.mq_ru, KS.mq_fu, KS.mq_ch, KS.mq_fi, KS.mq_be, KS.mq_ol, KS.mq_nw, KS.mq_kn, KS.mq_mo]; exact hmo
      have hk4' : U.kn ≤ 4 := by rw [hU]; simp only [kdDF, KS.mq_dk, KS.mq_lt, KS.mq_op, KS.mq_ld, KS.mq_pl, KS.mq_nu, KS.mq_se, KS.mq_ku, KS.mq_ks, KS.mq_tg, KS.mq_by, KS.mq_ru, KS.mq_fu, KS.mq_ch, KS.mq_fi, KS.mq_be, KS.mq_ol, KS.mq_nw, KS.mq_kn, KS.mq_mo]; exact hk4
      rw [← hU] at O4 H
      exact ⟨1, 10, by omega, CKD_begin (kd := va_up kd q 2) (an := an) (ai := ai3) (al := al) (ar := ar3) (mX42_disk := mX42_disk) (mX42_count := mX42_count) (mX42_runs := va_up mX42_runs x 0) (mX42_isFull := mX42_isFull) (mX42_places := mX42_places) (mX42_laid := mX42_laid) (mX42_changed := mX42_changed) (mX42_waiting := mX42_waiting) (mX42_states := mX42_states) (mX42_kept := mX42_kept) (mX43_number := mN2) (mX43_sectors := mU2) (mX63_bytes := mX63_bytes) (mX64_to := mX64_to) (mX64_sector := mX64_sector) (mJ1_modCount := mJ1_modCount) (mJ2_elementData := mJ2_elementData) (mJ2_size := mJ2_size) (mJ5_elements := mJ5_elements) (mJ5_head := mH3) (mJ5_tail := mJ5_tail) (mJ22_cursor := mJ22_cursor) (mJ22_remaining := mJ22_remaining) (mJ22_lastRet := mJ22_lastRet) (mJ22_this_0 := mJ22_this_0) (mJ23_cursor := mJ23_cursor) (mJ23_lastRet := mJ23_lastRet) (mJ23_expectedModCount := mJ23_expectedModCount) (mJ23_this_0 := mJ23_this_0) (sa := sa) (S := U) (by decide) hmo' O4 ⟨va_up_self _ _ _, by rw [eN2]; exact va_up_self _ _ _, by rw [eU2]; exact va_up_self _ _ _⟩ (by decide) hk4' (fun kd6 an6 ai6 ar6 G6 M6 Z6 E6 H6 T6 O6 _ => ⟨by omega, by omega, H _ _ _ _ _ _ _ _ _ _ _ _ _ O6⟩)⟩
  · rw [if_neg lt1] at H
    obtain ⟨_, _, _, _, _, _, _, d15, _, _, _, _, _, _, _, _, _, _, _, _, _, _, _, _, _, A4, _⟩ := O2
    refine kOn_of A4.1 ⟨A4.2.1.1.1, by omega, CKD_dempB A4.2.1 (fun _ => ?_) (fun w => absurd ?_ w)⟩
    rotate_left
    · show S.be - (S.fi + (M : Int)) = 0
      omega
    unfold kdSm2 at O2b
    generalize kdWm S.dk S.tg S.by' S.fi M = dd at H O2b
    generalize S.fi + (M : Int) = ff at O2b
    have EQ := kdCu_e (S := S) (d := dd) (f := ff)
    · rw [← EQ] at H
      intro R' eR
      refine ⟨by omega, fun q hq mN eN mU eU => ⟨by omega, ?_⟩⟩
      unfold wpKD_X43_init wpKD_J7_init
      intro mN2 eN2 mU2 eU2
      rw [eN, va_up_up] at eN2
      rw [eU, va_up_up] at eU2
      have K : kdKx (fun _ => False) (fun _ => False) (fun _ => False) kd an ai2 ar2 mX63_bytes mX64_to mX64_sector mX43_number mX43_sectors mJ5_elements mH2 mJ5_tail (va_up kd q 2) an ai2 ar2 mX63_bytes mX64_to mX64_sector mN2 mU2 mJ5_elements mH2 mJ5_tail := fun r hr => by
        have n1 : ¬ r = q := fun z => hr (by rw [z]; exact hq)
        exact ⟨⟨va_up_ne _ _ n1, rfl, rfl⟩, ⟨rfl, rfl⟩, ⟨by rw [eN2]; exact va_up_ne _ _ n1, by rw [eU2]; exact va_up_ne _ _ n1⟩, fun _ => rfl, fun _ => rfl, fun _ => ⟨rfl, rfl, rfl⟩⟩
      have O4 := (O2b.kx0 K).ru' (v := 0)
      rw [eR]
      obtain ⟨U, hU⟩ : ∃ U, U = (KS.mk ((kdDF S dd ff).dk) ((kdDF S dd ff).lt) ((kdDF S dd ff).op) ((kdDF S dd ff).ld) ((kdDF S dd ff).pl) ((kdDF S dd ff).nu) ((kdDF S dd ff).se) ((kdDF S dd ff).ku) ((kdDF S dd ff).ks) ((kdDF S dd ff).tg) ((kdDF S dd ff).by') (0) ((kdDF S dd ff).fu) ((kdDF S dd ff).ch) ((kdDF S dd ff).fi) ((kdDF S dd ff).be) ((kdDF S dd ff).ol) ((kdDF S dd ff).nw) ((kdDF S dd ff).kn) ((kdDF S dd ff).mo)) := ⟨_, rfl⟩
      have hmo' : U.mo < 90000 := by rw [hU]; simp only [kdDF, KS.mq_dk, KS.mq_lt, KS.mq_op, KS.mq_ld, KS.mq_pl, KS.mq_nu, KS.mq_se, KS.mq_ku, KS.mq_ks, KS.mq_tg, KS.mq_by, KS.mq_ru, KS.mq_fu, KS.mq_ch, KS.mq_fi, KS.mq_be, KS.mq_ol, KS.mq_nw, KS.mq_kn, KS.mq_mo]; exact hmo
      have hk4' : U.kn ≤ 4 := by rw [hU]; simp only [kdDF, KS.mq_dk, KS.mq_lt, KS.mq_op, KS.mq_ld, KS.mq_pl, KS.mq_nu, KS.mq_se, KS.mq_ku, KS.mq_ks, KS.mq_tg, KS.mq_by, KS.mq_ru, KS.mq_fu, KS.mq_ch, KS.mq_fi, KS.mq_be, KS.mq_ol, KS.mq_nw, KS.mq_kn, KS.mq_mo]; exact hk4
      rw [← hU] at O4 H
      exact ⟨1, 10, by omega, CKD_begin (kd := va_up kd q 2) (an := an) (ai := ai2) (al := al) (ar := ar2) (mX42_disk := mX42_disk) (mX42_count := mX42_count) (mX42_runs := va_up mX42_runs x 0) (mX42_isFull := mX42_isFull) (mX42_places := mX42_places) (mX42_laid := mX42_laid) (mX42_changed := mX42_changed) (mX42_waiting := mX42_waiting) (mX42_states := mX42_states) (mX42_kept := mX42_kept) (mX43_number := mN2) (mX43_sectors := mU2) (mX63_bytes := mX63_bytes) (mX64_to := mX64_to) (mX64_sector := mX64_sector) (mJ1_modCount := mJ1_modCount) (mJ2_elementData := mJ2_elementData) (mJ2_size := mJ2_size) (mJ5_elements := mJ5_elements) (mJ5_head := mH2) (mJ5_tail := mJ5_tail) (mJ22_cursor := mJ22_cursor) (mJ22_remaining := mJ22_remaining) (mJ22_lastRet := mJ22_lastRet) (mJ22_this_0 := mJ22_this_0) (mJ23_cursor := mJ23_cursor) (mJ23_lastRet := mJ23_lastRet) (mJ23_expectedModCount := mJ23_expectedModCount) (mJ23_this_0 := mJ23_this_0) (sa := sa) (S := U) (by decide) hmo' O4 ⟨va_up_self _ _ _, by rw [eN2]; exact va_up_self _ _ _, by rw [eU2]; exact va_up_self _ _ _⟩ (by decide) hk4' (fun kd6 an6 ai6 ar6 G6 M6 Z6 E6 H6 T6 O6 _ => ⟨by omega, by omega, H _ _ _ _ _ _ _ _ _ _ _ _ _ O6⟩)⟩
end
