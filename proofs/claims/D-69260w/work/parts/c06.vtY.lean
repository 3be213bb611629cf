/-! VersionTrans: the reference (X48) does what a call does -/
def vsIR (rt rv re : Int → Int) (n la : Int) (pn wr se st no ws wf wt wl si : Int → Int) (ck c : Int) (ho : Int → Int) (qf qt : Int) (rg : Int → Int) (rs : Int) (fl rf : Int → Int) (u b d : Int) (s : vsS) : Prop := ∃ S vr nt, (vsH u b d S vr la c wr se pn nt rf ∧ vtW rt rv re n vr ∧ vtNt no 60 nt ∧ vtQ rg 0 S.R) ∧ (st = S.st ∧ ws = S.ws ∧ wf = S.wf ∧ wt = S.wt ∧ wl = S.wl ∧ si = S.si ∧ ck = S.ck ∧ ho = S.ho ∧ qf = 0 ∧ qt = 0 ∧ rs = S.R.length ∧ fl = S.fl) ∧ s = (S, vr, (la, c), wr, se, pn, nt, rf)
section
variable {rt rv re pn wr se st no ws wf wt wl si ho rg fl rf q bs : Int → Int} {n la ck c qf qt rs u b d v k t g i e : Int} {s : vsS}
theorem Q48_told {post : Int → Int → Prop} (R : vsIR rt rv re n la pn wr se st no ws wf wt wl si ck c ho qf qt rg rs fl rf u b d s) (h : post (vsTold v k s).2 ((vsTold v k s).1 : Nat)) : wpX48_told post rt rv re n la pn se st c v k := by
  obtain ⟨S, vr, nt, ⟨H, W, N, Qr⟩, ⟨rfl, rfl, rfl, rfl, rfl, rfl, rfl, rfl, rfl, rfl, rfl, rfl⟩, rfl⟩ := R
  have nb := vtN_b (N := 12800) (vr := vr)
  have nn := W.2.2
  have H0 := H
  obtain ⟨h1, h2, h3, h4, h5, h6, ⟨hI, hQ⟩, h8, h9, h10, h11, h12, h13⟩ := H0
  have hc : 0 ≤ c ∧ c ≤ 60 := by omega
  refine T48_told W.1 (by omega) hc (fun w => ?_) (fun w y => ?_) (fun w y => ?_)
  · have e0 : vsTold v k (S, vr, (la, c), wr, se, pn, nt, rf) = (1, 0) := pif_f w
    rw [e0] at h
    exact h
  · have e0 : vsTold v k (S, vr, (la, c), wr, se, pn, nt, rf) = (0, pif (vtTh vr k v) 1 0) := pif_t w
    rw [e0] at h
    rw [pif_t y] at h
    exact h
  · have e0 : vsTold v k (S, vr, (la, c), wr, se, pn, nt, rf) = (0, pif (vtTh vr k v) 1 0) := pif_t w
    rw [e0] at h
    rw [pif_f y] at h
    exact h
theorem Q48_state {post : Int → Int → Prop} (R : vsIR rt rv re n la pn wr se st no ws wf wt wl si ck c ho qf qt rg rs fl rf u b d s) (h : post (vsState t s).2 ((vsState t s).1 : Nat)) : wpX48_state post st c t := by
  obtain ⟨S, vr, nt, ⟨H, W, N, Qr⟩, ⟨rfl, rfl, rfl, rfl, rfl, rfl, rfl, rfl, rfl, rfl, rfl, rfl⟩, rfl⟩ := R
  have nb := vtN_b (N := 12800) (vr := vr)
  have nn := W.2.2
  have H0 := H
  obtain ⟨h1, h2, h3, h4, h5, h6, ⟨hI, hQ⟩, h8, h9, h10, h11, h12, h13⟩ := H0
  have hc : 0 ≤ c ∧ c ≤ 60 := by omega
  refine T48_state hc (fun w => ?_) (fun w => ?_)
  · have e0 : vsState t (S, vr, (la, c), wr, se, pn, nt, rf) = (1, 0) := if_neg w
    rw [e0] at h
    exact h
  · have e0 : vsState t (S, vr, (la, c), wr, se, pn, nt, rf) = (0, S.st t) := if_pos w
    rw [e0] at h
    exact h
theorem Q48_waits {post : Int → Int → Prop} (R : vsIR rt rv re n la pn wr se st no ws wf wt wl si ck c ho qf qt rg rs fl rf u b d s) (h : post (vsWaits t s).2 ((vsWaits t s).1 : Nat)) : wpX48_waits post st wf c t := by
  obtain ⟨S, vr, nt, ⟨H, W, N, Qr⟩, ⟨rfl, rfl, rfl, rfl, rfl, rfl, rfl, rfl, rfl, rfl, rfl, rfl⟩, rfl⟩ := R
  have nb := vtN_b (N := 12800) (vr := vr)
  have nn := W.2.2
  have H0 := H
  obtain ⟨h1, h2, h3, h4, h5, h6, ⟨hI, hQ⟩, h8, h9, h10, h11, h12, h13⟩ := H0
  have hc : 0 ≤ c ∧ c ≤ 60 := by omega
  refine T48_waits hc (fun w => ?_) (fun w => ?_)
  · have e0 : vsWaits t (S, vr, (la, c), wr, se, pn, nt, rf) = (1, 0) := if_neg w
    rw [e0] at h
    exact h
  · have e0 : vsWaits t (S, vr, (la, c), wr, se, pn, nt, rf) = (0, if S.st t = 1 then S.wf t else -1) := if_pos w
    rw [e0] at h
    exact h
theorem Q48_ring {post : Int → Int → Prop} (R : vsIR rt rv re n la pn wr se st no ws wf wt wl si ck c ho qf qt rg rs fl rf u b d s) (h : post (vsRing i s) 0) : wpX48_ring post rg rs i := by
  obtain ⟨S, vr, nt, ⟨H, W, N, Qr⟩, ⟨rfl, rfl, rfl, rfl, rfl, rfl, rfl, rfl, rfl, rfl, rfl, rfl⟩, rfl⟩ := R
  have nb := vtN_b (N := 12800) (vr := vr)
  have nn := W.2.2
  have H0 := H
  obtain ⟨h1, h2, h3, h4, h5, h6, ⟨hI, hQ⟩, h8, h9, h10, h11, h12, h13⟩ := H0
  have hc : 0 ≤ c ∧ c ≤ 60 := by omega
  have l60 := h11.1
  refine T48_ring (by omega) ?_
  have e0 : vsRing i (S, vr, (la, c), wr, se, pn, nt, rf) = if 0 ≤ i ∧ i < S.R.length then rg i else -1 := by
    show (if 0 ≤ i ∧ i < S.R.length then S.R.getD i.toNat 0 else -1) = _
    by_cases z : 0 ≤ i ∧ i < S.R.length
    · rw [if_pos z, if_pos z]
      have q := Qr i.toNat (by omega)
      rw [show (0 : Int) + (i.toNat : Nat) = i by omega] at q
      rw [q]
    · rw [if_neg z, if_neg z]
  rw [e0] at h
  exact h
theorem Q48_conflicts {post : Int → Int → Prop} (R : vsIR rt rv re n la pn wr se st no ws wf wt wl si ck c ho qf qt rg rs fl rf u b d s) (h : post (vsConf k i s).2 ((vsConf k i s).1 : Nat)) : wpX48_conflicts post fl rf k i := by
  obtain ⟨S, vr, nt, ⟨H, W, N, Qr⟩, ⟨rfl, rfl, rfl, rfl, rfl, rfl, rfl, rfl, rfl, rfl, rfl, rfl⟩, rfl⟩ := R
  have nb := vtN_b (N := 12800) (vr := vr)
  have nn := W.2.2
  have H0 := H
  obtain ⟨h1, h2, h3, h4, h5, h6, ⟨hI, hQ⟩, h8, h9, h10, h11, h12, h13⟩ := H0
  have hc : 0 ≤ c ∧ c ≤ 60 := by omega
  refine T48_conflicts (fun w => ?_) (fun w => ?_)
  · have e0 : vsConf k i (S, vr, (la, c), wr, se, pn, nt, rf) = (1, 0) := pif_f w
    rw [e0] at h
    exact h
  · have e0 : vsConf k i (S, vr, (la, c), wr, se, pn, nt, rf) = (0, if k = 0 then S.fl i else rf i) := pif_t w
    rw [e0] at h
    exact h
theorem Q48_read {post : Int → Int → Prop} (R : vsIR rt rv re n la pn wr se st no ws wf wt wl si ck c ho qf qt rg rs fl rf u b d s) (h : post (vsRead t k s).2 ((vsRead t k s).1 : Nat)) : wpX48_read post rt rv re n se st ws c t k := by
  obtain ⟨S, vr, nt, ⟨H, W, N, Qr⟩, ⟨rfl, rfl, rfl, rfl, rfl, rfl, rfl, rfl, rfl, rfl, rfl, rfl⟩, rfl⟩ := R
  have nb := vtN_b (N := 12800) (vr := vr)
  have nn := W.2.2
  have H0 := H
  obtain ⟨h1, h2, h3, h4, h5, h6, ⟨hI, hQ⟩, h8, h9, h10, h11, h12, h13⟩ := H0
  have hc : 0 ≤ c ∧ c ≤ 60 := by omega
  refine T48_read W.1 (by omega) hc h10.1 (fun w => ?_) (fun w z => ?_) (fun w z y => ?_) (fun w z y => ?_)
  · have e0 : vsRead t k (S, vr, (la, c), wr, se, pn, nt, rf) = (1, 0) := if_neg w
    rw [e0] at h
    exact h
  · have e0 : vsRead t k (S, vr, (la, c), wr, se, pn, nt, rf) = (2, 0) := (if_pos w).trans (if_neg z)
    rw [e0] at h
    exact h
  · have e0 : vsRead t k (S, vr, (la, c), wr, se, pn, nt, rf) = (0, pif (vtSe vr se S.ws t k) 1 0) := (if_pos w).trans (if_pos z)
    rw [e0] at h
    rw [pif_t y] at h
    exact h
  · have e0 : vsRead t k (S, vr, (la, c), wr, se, pn, nt, rf) = (0, pif (vtSe vr se S.ws t k) 1 0) := (if_pos w).trans (if_pos z)
    rw [e0] at h
    rw [pif_f y] at h
    exact h
theorem Q48_rows {post : Int → Int → Prop} (R : vsIR rt rv re n la pn wr se st no ws wf wt wl si ck c ho qf qt rg rs fl rf u b d s) (h : post (vsRows s) 0) : wpX48_rows post n := by
  obtain ⟨S, vr, nt, ⟨H, W, N, Qr⟩, ⟨rfl, rfl, rfl, rfl, rfl, rfl, rfl, rfl, rfl, rfl, rfl, rfl⟩, rfl⟩ := R
  have nb := vtN_b (N := 12800) (vr := vr)
  have nn := W.2.2
  have H0 := H
  obtain ⟨h1, h2, h3, h4, h5, h6, ⟨hI, hQ⟩, h8, h9, h10, h11, h12, h13⟩ := H0
  have hc : 0 ≤ c ∧ c ≤ 60 := by omega
  unfold wpX48_rows
  rw [nn]
  exact h
theorem Q48_latest {post : Int → Int → Prop} (R : vsIR rt rv re n la pn wr se st no ws wf wt wl si ck c ho qf qt rg rs fl rf u b d s) (h : post (vsLatest s) 0) : wpX48_latest post la := by
  obtain ⟨S, vr, nt, ⟨H, W, N, Qr⟩, ⟨rfl, rfl, rfl, rfl, rfl, rfl, rfl, rfl, rfl, rfl, rfl, rfl⟩, rfl⟩ := R
  have nb := vtN_b (N := 12800) (vr := vr)
  have nn := W.2.2
  have H0 := H
  obtain ⟨h1, h2, h3, h4, h5, h6, ⟨hI, hQ⟩, h8, h9, h10, h11, h12, h13⟩ := H0
  have hc : 0 ≤ c ∧ c ≤ 60 := by omega
  unfold wpX48_latest
  exact h
theorem Q48_least {post : Int → Int → Prop} (R : vsIR rt rv re n la pn wr se st no ws wf wt wl si ck c ho qf qt rg rs fl rf u b d s) (h : post (vsLeast s) 0) : wpX48_least post la pn se st c := by
  obtain ⟨S, vr, nt, ⟨H, W, N, Qr⟩, ⟨rfl, rfl, rfl, rfl, rfl, rfl, rfl, rfl, rfl, rfl, rfl, rfl⟩, rfl⟩ := R
  have nb := vtN_b (N := 12800) (vr := vr)
  have nn := W.2.2
  have H0 := H
  obtain ⟨h1, h2, h3, h4, h5, h6, ⟨hI, hQ⟩, h8, h9, h10, h11, h12, h13⟩ := H0
  have hc : 0 ≤ c ∧ c ≤ 60 := by omega
  unfold wpX48_least
  refine T48_least hc (fun m hm => ?_)
  rw [← vsLk_e hm]
  exact h
theorem Q48_note {post : Int → (Int → Int) → Int → Prop} (R : vsIR rt rv re n la pn wr se st no ws wf wt wl si ck c ho qf qt rg rs fl rf u b d s) (h : ∀ no', vsIR rt rv re n la pn wr se st no' ws wf wt wl si ck c ho qf qt rg rs fl rf u b d ((vsNote t g s).2.2) → post (vsNote t g s).2.1 no' ((vsNote t g s).1 : Nat)) : wpX48_note post wr st no c t g := by
  obtain ⟨S, vr, nt, ⟨H, W, N, Qr⟩, ⟨rfl, rfl, rfl, rfl, rfl, rfl, rfl, rfl, rfl, rfl, rfl, rfl⟩, rfl⟩ := R
  have nb := vtN_b (N := 12800) (vr := vr)
  have nn := W.2.2
  have H0 := H
  obtain ⟨h1, h2, h3, h4, h5, h6, ⟨hI, hQ⟩, h8, h9, h10, h11, h12, h13⟩ := H0
  have hc : 0 ≤ c ∧ c ≤ 60 := by omega
  refine T48_note hc (N := 60) hc.2 N (fun w => ?_) (fun w z => ?_) (fun w z no' N' => ?_)
  · have e0 : vsNote t g (S, vr, (la, c), wr, se, pn, nt, rf) = (1, 0, (S, vr, (la, c), wr, se, pn, nt, rf)) := if_neg w
    rw [e0] at h
    exact h _ ⟨_, _, _, ⟨H, W, N, Qr⟩, ⟨rfl, rfl, rfl, rfl, rfl, rfl, rfl, rfl, rfl, rfl, rfl, rfl⟩, rfl⟩
  · have e0 : vsNote t g (S, vr, (la, c), wr, se, pn, nt, rf) = (2, 0, (S, vr, (la, c), wr, se, pn, nt, rf)) := (if_pos w).trans (if_neg z)
    rw [e0] at h
    exact h _ ⟨_, _, _, ⟨H, W, N, Qr⟩, ⟨rfl, rfl, rfl, rfl, rfl, rfl, rfl, rfl, rfl, rfl, rfl, rfl⟩, rfl⟩
  · have e0 : vsNote t g (S, vr, (la, c), wr, se, pn, nt, rf) = (0, updI (nt t) g 1 0 + updI (nt t) g 1 1 + updI (nt t) g 1 2 + updI (nt t) g 1 3, (S, vr, (la, c), wr, se, pn, updI nt t (updI (nt t) g 1), rf)) := (if_pos w).trans (if_pos z)
    rw [e0] at h
    exact h _ ⟨_, _, _, ⟨H.note w.1 z.2, W, N', Qr⟩, ⟨rfl, rfl, rfl, rfl, rfl, rfl, rfl, rfl, rfl, rfl, rfl, rfl⟩, rfl⟩
theorem Q48_unpin {post : Int → (Int → Int) → Int → Prop} (R : vsIR rt rv re n la pn wr se st no ws wf wt wl si ck c ho qf qt rg rs fl rf u b d s) (h : ∀ pn', vsIR rt rv re n la pn' wr se st no ws wf wt wl si ck c ho qf qt rg rs fl rf u b d ((vsUnpin v s).2.2) → post (vsUnpin v s).2.1 pn' ((vsUnpin v s).1 : Nat)) : wpX48_unpin post pn v := by
  obtain ⟨S, vr, nt, ⟨H, W, N, Qr⟩, ⟨rfl, rfl, rfl, rfl, rfl, rfl, rfl, rfl, rfl, rfl, rfl, rfl⟩, rfl⟩ := R
  have nb := vtN_b (N := 12800) (vr := vr)
  have nn := W.2.2
  have H0 := H
  obtain ⟨h1, h2, h3, h4, h5, h6, ⟨hI, hQ⟩, h8, h9, h10, h11, h12, h13⟩ := H0
  have hc : 0 ≤ c ∧ c ≤ 60 := by omega
  refine T48_unpin (fun w w0 w1 => by have := h5 w w0 w1; omega) (fun w => ?_) (fun w => ?_)
  · have e0 : vsUnpin v (S, vr, (la, c), wr, se, pn, nt, rf) = (1, 0, (S, vr, (la, c), wr, se, pn, nt, rf)) := if_neg w
    rw [e0] at h
    exact h _ ⟨_, _, _, ⟨H, W, N, Qr⟩, ⟨rfl, rfl, rfl, rfl, rfl, rfl, rfl, rfl, rfl, rfl, rfl, rfl⟩, rfl⟩
  · have hp : ∀ w, 0 ≤ w → w < 64 → 0 ≤ updI pn v (pn v - 1) w ∧ updI pn v (pn v - 1) w ≤ u := fun w w0 w1 => by
      have q := h5 w w0 w1
      by_cases z : w = v
      · subst z; rw [updI_s]; omega
      · rw [updI_n z]; exact q
    have e0 : vsUnpin v (S, vr, (la, c), wr, se, pn, nt, rf) = (0, pn v - 1, (S, vr, (la, c), wr, se, updI pn v (pn v - 1), nt, rf)) := if_pos w
    rw [e0] at h
    exact h _ ⟨_, _, _, ⟨H.pns hp, W, N, Qr⟩, ⟨rfl, rfl, rfl, rfl, rfl, rfl, rfl, rfl, rfl, rfl, rfl, rfl⟩, rfl⟩
theorem Q48_pin {post : Int → (Int → Int) → Int → Prop} (R : vsIR rt rv re n la pn wr se st no ws wf wt wl si ck c ho qf qt rg rs fl rf u b d s) (hu : u ≤ 199) (h : ∀ pn', vsIR rt rv re n la pn' wr se st no ws wf wt wl si ck c ho qf qt rg rs fl rf (u + 1) b d ((vsPin v s).2.2) → post (vsPin v s).2.1 pn' ((vsPin v s).1 : Nat)) : wpX48_pin post la pn se st c v := by
  obtain ⟨S, vr, nt, ⟨H, W, N, Qr⟩, ⟨rfl, rfl, rfl, rfl, rfl, rfl, rfl, rfl, rfl, rfl, rfl, rfl⟩, rfl⟩ := R
  have nb := vtN_b (N := 12800) (vr := vr)
  have nn := W.2.2
  have H0 := H
  obtain ⟨h1, h2, h3, h4, h5, h6, ⟨hI, hQ⟩, h8, h9, h10, h11, h12, h13⟩ := H0
  have hc : 0 ≤ c ∧ c ≤ 60 := by omega
  refine T48_pin hc (by omega) (fun t t0 t1 => (h6 t t0 t1).1) h2.1 (fun w w0 w1 => by have := h5 w w0 w1; omega) (fun w => ?_) (fun w w2 => ?_)
  · have e0 : vsPin v (S, vr, (la, c), wr, se, pn, nt, rf) = (1, 0, (S, vr, (la, c), wr, se, pn, nt, rf)) := pif_f w
    rw [e0] at h
    exact h _ ⟨_, _, _, ⟨(H.up ⟨by omega, by omega⟩ ⟨Int.le_refl _, H.1.2.1⟩ ⟨Int.le_refl _, H.1.2.2⟩), W, N, Qr⟩, ⟨rfl, rfl, rfl, rfl, rfl, rfl, rfl, rfl, rfl, rfl, rfl, rfl⟩, rfl⟩
  · have hp : ∀ w, 0 ≤ w → w < 64 → 0 ≤ updI pn v (pn v + 1) w ∧ updI pn v (pn v + 1) w ≤ u + 1 := fun w w0 w1 => by
      have q := h5 w w0 w1
      by_cases z : w = v
      · subst z; rw [updI_s]; omega
      · rw [updI_n z]; omega
    have e0 : vsPin v (S, vr, (la, c), wr, se, pn, nt, rf) = (0, pn v + 1, (S, vr, (la, c), wr, se, updI pn v (pn v + 1), nt, rf)) := pif_t w
    rw [e0] at h
    exact h _ ⟨_, _, _, ⟨(H.up ⟨by omega, by omega⟩ ⟨Int.le_refl _, H.1.2.1⟩ ⟨Int.le_refl _, H.1.2.2⟩).pns hp, W, N, Qr⟩, ⟨rfl, rfl, rfl, rfl, rfl, rfl, rfl, rfl, rfl, rfl, rfl, rfl⟩, rfl⟩
theorem Q48_begin {post : Int → (Int → Int) → (Int → Int) → (Int → Int) → (Int → Int) → Int → Int → Prop} (R : vsIR rt rv re n la pn wr se st no ws wf wt wl si ck c ho qf qt rg rs fl rf u b d s) (hb : b ≤ 58) (h : ∀ wr' se' st' wf' c', vsIR rt rv re n la pn wr' se' st' no ws wf' wt wl si ck c' ho qf qt rg rs fl rf u (b + 1) d ((vsBegin s).2.2) → post (vsBegin s).2.1 wr' se' st' wf' c' ((vsBegin s).1 : Nat)) : wpX48_begin post la wr se st wf c := by
  obtain ⟨S, vr, nt, ⟨H, W, N, Qr⟩, ⟨rfl, rfl, rfl, rfl, rfl, rfl, rfl, rfl, rfl, rfl, rfl, rfl⟩, rfl⟩ := R
  have nb := vtN_b (N := 12800) (vr := vr)
  have nn := W.2.2
  have H0 := H
  obtain ⟨h1, h2, h3, h4, h5, h6, ⟨hI, hQ⟩, h8, h9, h10, h11, h12, h13⟩ := H0
  have hc : 0 ≤ c ∧ c ≤ 60 := by omega
  refine T48_begin hc (fun w => absurd w (by omega)) (fun w => ?_)
  exact h _ _ _ _ _ ⟨_, _, _, ⟨H.nw hb ⟨h2.1, Int.le_refl _⟩, W, N, Qr⟩, ⟨rfl, rfl, rfl, rfl, rfl, rfl, rfl, rfl, rfl, rfl, rfl, rfl⟩, rfl⟩
theorem Q48_look {post : Int → (Int → Int) → (Int → Int) → (Int → Int) → (Int → Int) → Int → Int → Prop} (R : vsIR rt rv re n la pn wr se st no ws wf wt wl si ck c ho qf qt rg rs fl rf u b d s) (hb : b ≤ 58) (h : ∀ wr' se' st' wf' c', vsIR rt rv re n la pn wr' se' st' no ws wf' wt wl si ck c' ho qf qt rg rs fl rf u (b + 1) d ((vsLook v s).2.2) → post (vsLook v s).2.1 wr' se' st' wf' c' ((vsLook v s).1 : Nat)) : wpX48_look post la pn wr se st wf c v := by
  obtain ⟨S, vr, nt, ⟨H, W, N, Qr⟩, ⟨rfl, rfl, rfl, rfl, rfl, rfl, rfl, rfl, rfl, rfl, rfl, rfl⟩, rfl⟩ := R
  have nb := vtN_b (N := 12800) (vr := vr)
  have nn := W.2.2
  have H0 := H
  obtain ⟨h1, h2, h3, h4, h5, h6, ⟨hI, hQ⟩, h8, h9, h10, h11, h12, h13⟩ := H0
  have hc : 0 ≤ c ∧ c ≤ 60 := by omega
  refine T48_look hc (fun w => ?_) (fun _ w => absurd w (by omega)) (fun w w2 => ?_)
  · have e0 : vsLook v (S, vr, (la, c), wr, se, pn, nt, rf) = (1, 0, (S, vr, (la, c), wr, se, pn, nt, rf)) := pif_f w
    rw [e0] at h
    exact h _ _ _ _ _ ⟨_, _, _, ⟨(H.up ⟨Int.le_refl _, H.1.1.2⟩ ⟨by omega, by omega⟩ ⟨Int.le_refl _, H.1.2.2⟩), W, N, Qr⟩, ⟨rfl, rfl, rfl, rfl, rfl, rfl, rfl, rfl, rfl, rfl, rfl, rfl⟩, rfl⟩
  · have vb : 0 ≤ v ∧ v ≤ la := by
      obtain ⟨⟨m, hm, le⟩, lv⟩ := w
      rcases hm.1 with q | ⟨t, tb, _, q⟩ | ⟨k, kb, _, q⟩
      · omega
      · have := h6 t tb.1 tb.2; omega
      · omega
    have e0 : vsLook v (S, vr, (la, c), wr, se, pn, nt, rf) = (0, c, (vsNw c S, vr, (la, c + 1), updI wr c 0, updI se c v, pn, nt, rf)) := pif_t w
    rw [e0] at h
    exact h _ _ _ _ _ ⟨_, _, _, ⟨H.nw hb vb, W, N, Qr⟩, ⟨rfl, rfl, rfl, rfl, rfl, rfl, rfl, rfl, rfl, rfl, rfl, rfl⟩, rfl⟩
theorem Q48_free {post : Int → (Int → Int) → (Int → Int) → (Int → Int) → Int → Int → (Int → Int) → Prop} (R : vsIR rt rv re n la pn wr se st no ws wf wt wl si ck c ho qf qt rg rs fl rf u b d s) (h : ∀ rt' rv' re' n' bs', vsIR rt' rv' re' n' la pn wr se st no ws wf wt wl si ck c ho qf qt rg rs fl rf u b d ((vsFree s).2) → post (vsFree s).1 rt' rv' re' n' 0 bs') : wpX48_free post rt rv re n la pn se st c bs := by
  obtain ⟨S, vr, nt, ⟨H, W, N, Qr⟩, ⟨rfl, rfl, rfl, rfl, rfl, rfl, rfl, rfl, rfl, rfl, rfl, rfl⟩, rfl⟩ := R
  have nb := vtN_b (N := 12800) (vr := vr)
  have nn := W.2.2
  have H0 := H
  obtain ⟨h1, h2, h3, h4, h5, h6, ⟨hI, hQ⟩, h8, h9, h10, h11, h12, h13⟩ := H0
  have hc : 0 ≤ c ∧ c ≤ 60 := by omega
  refine T48_free W hc (fun m hm rt' rv' re' bs' W' => ?_)
  have e0 : vsFree (S, vr, (la, c), wr, se, pn, nt, rf) = (vtN 12800 vr - vtN 12800 (vtF vr m), (S, vtF vr m, (la, c), wr, se, pn, nt, rf)) := by
    show (vtN 12800 vr - vtN 12800 (vtF vr (Classical.epsilon (fun m => vtLk la pn se S.st c m))), (S, vtF vr (Classical.epsilon (fun m => vtLk la pn se S.st c m)), (la, c), wr, se, pn, nt, rf)) = _
    rw [vsLk_e hm]
  rw [e0] at h
  exact h _ _ _ _ _ ⟨_, _, _, ⟨H.free, W', N, Qr⟩, ⟨rfl, rfl, rfl, rfl, rfl, rfl, rfl, rfl, rfl, rfl, rfl, rfl⟩, rfl⟩
theorem Q48_put {post : Int → (Int → Int) → (Int → Int) → (Int → Int) → (Int → Int) → (Int → Int) → (Int → Int) → Int → (Int → Int) → (Int → Int) → Int → Int → (Int → Int) → Int → (Int → Int) → Int → Prop} (R : vsIR rt rv re n la pn wr se st no ws wf wt wl si ck c ho qf qt rg rs fl rf u b d s) (hu : u ≤ 199) (he : e = 0 ∨ e = 1) (h : ∀ st' ws' wf' wt' wl' si' ck' ho' q' qf' qt' rg' rs' fl', vsIR rt rv re n la pn wr se st' no ws' wf' wt' wl' si' ck' c ho' qf' qt' rg' rs' fl' rf (u + 1) b d ((vsPut t k e s).2.2) → post (vsPut t k e s).2.1 st' ws' wf' wt' wl' si' ck' ho' q' qf' qt' rg' rs' fl' ((vsPut t k e s).1 : Nat)) : wpX48_put post rt rv n wr se st ws wf wt wl si ck c ho q qf qt rg rs fl t k e := by
  obtain ⟨S, vr, nt, ⟨H, W, N, Qr⟩, ⟨rfl, rfl, rfl, rfl, rfl, rfl, rfl, rfl, rfl, rfl, rfl, rfl⟩, rfl⟩ := R
  have nb := vtN_b (N := 12800) (vr := vr)
  have nn := W.2.2
  have H0 := H
  obtain ⟨h1, h2, h3, h4, h5, h6, ⟨hI, hQ⟩, h8, h9, h10, h11, h12, h13⟩ := H0
  have hc : 0 ≤ c ∧ c ≤ 60 := by omega
  refine T48_put (S := S) W.1 (by omega) hc hI hQ (by omega) (fun j j0 j1 => by have := h9 j j0 j1; omega) Qr he (fun w => ?_) (fun w z => ?_) (fun w z V eV q' rg' Q' => ?_)
  · have e0 : vsPut t k e (S, vr, (la, c), wr, se, pn, nt, rf) = (1, 0, (S, vr, (la, c), wr, se, pn, nt, rf)) := if_neg w
    rw [e0] at h
    exact h _ _ _ _ _ _ _ _ _ _ _ _ _ _ ⟨_, _, _, ⟨(H.up ⟨by omega, by omega⟩ ⟨Int.le_refl _, H.1.2.1⟩ ⟨Int.le_refl _, H.1.2.2⟩), W, N, Qr⟩, ⟨rfl, rfl, rfl, rfl, rfl, rfl, rfl, rfl, rfl, rfl, rfl, rfl⟩, rfl⟩
  · have e0 : vsPut t k e (S, vr, (la, c), wr, se, pn, nt, rf) = (2, 0, (S, vr, (la, c), wr, se, pn, nt, rf)) := (if_pos w).trans (if_neg z)
    rw [e0] at h
    exact h _ _ _ _ _ _ _ _ _ _ _ _ _ _ ⟨_, _, _, ⟨(H.up ⟨by omega, by omega⟩ ⟨Int.le_refl _, H.1.2.1⟩ ⟨Int.le_refl _, H.1.2.2⟩), W, N, Qr⟩, ⟨rfl, rfl, rfl, rfl, rfl, rfl, rfl, rfl, rfl, rfl, rfl, rfl⟩, rfl⟩
  · subst eV
    have e0 : vsPut t k e (S, vr, (la, c), wr, se, pn, nt, rf) = (0, vPu ((vG c vr se (vWrite c vr se t k e S)).st t), (vG c vr se (vWrite c vr se t k e S), vr, (la, c), wr, se, pn, nt, rf)) := (if_pos w).trans (if_pos z)
    rw [e0] at h
    exact h _ _ _ _ _ _ _ _ _ _ _ _ _ _ ⟨_, _, _, ⟨H.put hu w.1 z.2 z.1 w.2 he, W, N, Q'⟩, ⟨rfl, rfl, rfl, rfl, rfl, rfl, rfl, rfl, rfl, rfl, rfl, rfl⟩, rfl⟩
theorem Q48_abort {post : Int → (Int → Int) → (Int → Int) → (Int → Int) → (Int → Int) → (Int → Int) → (Int → Int) → Int → (Int → Int) → (Int → Int) → Int → Int → (Int → Int) → Int → (Int → Int) → Int → Prop} (R : vsIR rt rv re n la pn wr se st no ws wf wt wl si ck c ho qf qt rg rs fl rf u b d s) (hu : u ≤ 199) (h : ∀ st' ws' wf' wt' wl' si' ck' ho' q' qf' qt' rg' rs' fl', vsIR rt rv re n la pn wr se st' no ws' wf' wt' wl' si' ck' c ho' qf' qt' rg' rs' fl' rf (u + 1) b d ((vsAbort t s).2.2) → post (vsAbort t s).2.1 st' ws' wf' wt' wl' si' ck' ho' q' qf' qt' rg' rs' fl' ((vsAbort t s).1 : Nat)) : wpX48_abort post rt rv n se st ws wf wt wl si ck c ho q qf qt rg rs fl t := by
  obtain ⟨S, vr, nt, ⟨H, W, N, Qr⟩, ⟨rfl, rfl, rfl, rfl, rfl, rfl, rfl, rfl, rfl, rfl, rfl, rfl⟩, rfl⟩ := R
  have nb := vtN_b (N := 12800) (vr := vr)
  have nn := W.2.2
  have H0 := H
  obtain ⟨h1, h2, h3, h4, h5, h6, ⟨hI, hQ⟩, h8, h9, h10, h11, h12, h13⟩ := H0
  have hc : 0 ≤ c ∧ c ≤ 60 := by omega
  refine T48_abort (S := S) (wr := wr) W.1 (by omega) hc hI hQ (by omega) (fun j j0 j1 => by have := h9 j j0 j1; omega) Qr (fun w => ?_) (fun w z => ?_) (fun w z V eV q' rg' Q' => ?_)
  · have e0 : vsAbort t (S, vr, (la, c), wr, se, pn, nt, rf) = (1, 0, (S, vr, (la, c), wr, se, pn, nt, rf)) := if_neg w
    rw [e0] at h
    exact h _ _ _ _ _ _ _ _ _ _ _ _ _ _ ⟨_, _, _, ⟨(H.up ⟨by omega, by omega⟩ ⟨Int.le_refl _, H.1.2.1⟩ ⟨Int.le_refl _, H.1.2.2⟩), W, N, Qr⟩, ⟨rfl, rfl, rfl, rfl, rfl, rfl, rfl, rfl, rfl, rfl, rfl, rfl⟩, rfl⟩
  · have e0 : vsAbort t (S, vr, (la, c), wr, se, pn, nt, rf) = (2, 0, (S, vr, (la, c), wr, se, pn, nt, rf)) := (if_pos w).trans (if_neg z)
    rw [e0] at h
    exact h _ _ _ _ _ _ _ _ _ _ _ _ _ _ ⟨_, _, _, ⟨(H.up ⟨by omega, by omega⟩ ⟨Int.le_refl _, H.1.2.1⟩ ⟨Int.le_refl _, H.1.2.2⟩), W, N, Qr⟩, ⟨rfl, rfl, rfl, rfl, rfl, rfl, rfl, rfl, rfl, rfl, rfl, rfl⟩, rfl⟩
  · subst eV
    rw [vsEnd_w H w z]
    have e0 : vsAbort t (S, vr, (la, c), wr, se, pn, nt, rf) = (0, vtWs 200 S.ws t, (vG c vr se (vEnd c t 4 S), vr, (la, c), wr, se, pn, nt, rf)) := (if_pos w).trans (if_pos z)
    rw [e0] at h
    exact h _ _ _ _ _ _ _ _ _ _ _ _ _ _ ⟨_, _, _, ⟨H.end hu w z, W, N, Q'⟩, ⟨rfl, rfl, rfl, rfl, rfl, rfl, rfl, rfl, rfl, rfl, rfl, rfl⟩, rfl⟩
theorem Q48_commit {post : Int → (Int → Int) → (Int → Int) → (Int → Int) → Int → Int → (Int → Int) → (Int → Int) → (Int → Int) → (Int → Int) → (Int → Int) → (Int → Int) → Int → (Int → Int) → (Int → Int) → Int → Int → (Int → Int) → Int → (Int → Int) → (Int → Int) → Int → Prop} (R : vsIR rt rv re n la pn wr se st no ws wf wt wl si ck c ho qf qt rg rs fl rf u b d s) (hu : u ≤ 199) (hd : d ≤ 60) (h : ∀ rt' rv' re' n' la' st' ws' wf' wt' wl' si' ck' ho' q' qf' qt' rg' rs' fl' rf', vsIR rt' rv' re' n' la' pn wr se st' no ws' wf' wt' wl' si' ck' c ho' qf' qt' rg' rs' fl' rf' (u + 1) b (d + 1) ((vsCommit t s).2.2) → post (vsCommit t s).2.1 rt' rv' re' n' la' st' ws' wf' wt' wl' si' ck' ho' q' qf' qt' rg' rs' fl' rf' ((vsCommit t s).1 : Nat)) : wpX48_commit post rt rv re n la se st no ws wf wt wl si ck c ho q qf qt rg rs fl rf t := by
  obtain ⟨S, vr, nt, ⟨H, W, N, Qr⟩, ⟨rfl, rfl, rfl, rfl, rfl, rfl, rfl, rfl, rfl, rfl, rfl, rfl⟩, rfl⟩ := R
  have nb := vtN_b (N := 12800) (vr := vr)
  have nn := W.2.2
  have H0 := H
  obtain ⟨h1, h2, h3, h4, h5, h6, ⟨hI, hQ⟩, h8, h9, h10, h11, h12, h13⟩ := H0
  have hc : 0 ≤ c ∧ c ≤ 60 := by omega
  have nr : 0 ≤ u := h1.1.1
  refine T48_commit (S := S) (wr := wr) (nt := nt) W hc hI hQ (by omega) (fun j j0 j1 => by have := h9 j j0 j1; omega) (fun j j0 j1 => by have := h13 j j0 j1; omega) Qr (fun t t0 t1 => N t t0 (by omega)) h10.1 (fun t t0 t1 => (h6 t t0 t1).2) (by omega) (fun k v h => (h4 k v h).2.1.2) (fun w => ?_) (fun w z => ?_) (fun w s2 V eV q' rg' Q' => ?_) (fun w s0 g g0 g4 g1 g2 g3 V eV q' rg' Q' => ?_) (fun w s0 gn V eV rt' rv' re' q' rg' W' Q' => ?_)
  · have e0 : vsCommit t (S, vr, (la, c), wr, se, pn, nt, rf) = (1, 0, (S, vr, (la, c), wr, se, pn, nt, rf)) := if_neg w
    rw [e0] at h
    exact h _ _ _ _ _ _ _ _ _ _ _ _ _ _ _ _ _ _ _ _ ⟨_, _, _, ⟨(H.up ⟨by omega, by omega⟩ ⟨Int.le_refl _, H.1.2.1⟩ ⟨by omega, by omega⟩), W, N, Qr⟩, ⟨rfl, rfl, rfl, rfl, rfl, rfl, rfl, rfl, rfl, rfl, rfl, rfl⟩, rfl⟩
  · have e0 : vsCommit t (S, vr, (la, c), wr, se, pn, nt, rf) = (2, 0, (S, vr, (la, c), wr, se, pn, nt, rf)) := (if_pos w).trans (if_neg z)
    rw [e0] at h
    exact h _ _ _ _ _ _ _ _ _ _ _ _ _ _ _ _ _ _ _ _ ⟨_, _, _, ⟨(H.up ⟨by omega, by omega⟩ ⟨Int.le_refl _, H.1.2.1⟩ ⟨by omega, by omega⟩), W, N, Qr⟩, ⟨rfl, rfl, rfl, rfl, rfl, rfl, rfl, rfl, rfl, rfl, rfl, rfl⟩, rfl⟩
  · subst eV
    have hf : ∀ j, 0 ≤ j → j < 4 → 0 ≤ rf j ∧ rf j ≤ u + 1 := fun j j0 j1 => by
      have q := H.2.2.2.2.2.2.2.2.2.2.2.2 j j0 j1
      omega
    have e0 : vsCommit t (S, vr, (la, c), wr, se, pn, nt, rf) = (0, 0, (vG c vr se (vEnd c t 4 S), vr, (la, c), wr, se, pn, nt, rf)) := (if_pos w).trans ((if_pos (Or.inr s2)).trans (if_pos s2))
    rw [e0] at h
    exact h _ _ _ _ _ _ _ _ _ _ _ _ _ _ _ _ _ _ _ _ ⟨_, _, _, ⟨H.fin hu hd w (by omega) (by decide) H.2.2.2.1 ⟨Int.le_refl _, by omega⟩ hf, W, N, Q'⟩, ⟨rfl, rfl, rfl, rfl, rfl, rfl, rfl, rfl, rfl, rfl, rfl, rfl⟩, rfl⟩
  · subst eV
    have eg := vsFg_y (se := se) ⟨g0, g4⟩ g1 g2 g3
    have hf : ∀ j, 0 ≤ j → j < 4 → 0 ≤ updI rf g (rf g + 1) j ∧ updI rf g (rf g + 1) j ≤ u + 1 := fun j j0 j1 => by
      have q := H.2.2.2.2.2.2.2.2.2.2.2.2 j j0 j1
      by_cases z : j = g
      · subst z; rw [updI_s]; omega
      · rw [updI_n z]; omega
    have e0 : vsCommit t (S, vr, (la, c), wr, se, pn, nt, rf) = (0, 0, (vG c vr se (vEnd c t 4 S), vr, (la, c), wr, se, pn, nt, updI rf g (rf g + 1))) := by
      have q : vsCommit t (S, vr, (la, c), wr, se, pn, nt, rf) = (0, 0, (vG c vr se (vEnd c t 4 S), vr, (la, c), wr, se, pn, nt, updI rf (vsFg vr nt se t) (rf (vsFg vr nt se t) + 1))) := (if_pos w).trans ((if_pos (Or.inl s0)).trans ((if_neg (by omega)).trans (if_pos (by omega))))
      rw [eg] at q
      exact q
    rw [e0] at h
    exact h _ _ _ _ _ _ _ _ _ _ _ _ _ _ _ _ _ _ _ _ ⟨_, _, _, ⟨H.fin hu hd w (by omega) (by decide) H.2.2.2.1 ⟨Int.le_refl _, by omega⟩ hf, W, N, Q'⟩, ⟨rfl, rfl, rfl, rfl, rfl, rfl, rfl, rfl, rfl, rfl, rfl, rfl⟩, rfl⟩
  · subst eV
    have eg := vsFg_n (se := se) gn
    have hf : ∀ j, 0 ≤ j → j < 4 → 0 ≤ rf j ∧ rf j ≤ u + 1 := fun j j0 j1 => by
      have q := H.2.2.2.2.2.2.2.2.2.2.2.2 j j0 j1
      omega
    have e0 : vsCommit t (S, vr, (la, c), wr, se, pn, nt, rf) = (0, pif (vMa vr S.ws se t 200) (la + 1) (se t), (vG c (vCm vr S.ws se t la 200) se (vEnd c t 3 S), vCm vr S.ws se t la 200, (pif (vMa vr S.ws se t 200) (la + 1) la, c), wr, se, pn, nt, rf)) := (if_pos w).trans ((if_pos (Or.inl s0)).trans ((if_neg (by omega)).trans (if_neg (by omega))))
    rw [e0] at h
    exact h _ _ _ _ _ _ _ _ _ _ _ _ _ _ _ _ _ _ _ _ ⟨_, _, _, ⟨H.fin hu hd w (by omega) (by decide) (vsMa_V H w) vsMa_b hf, W', N, Q'⟩, ⟨rfl, rfl, rfl, rfl, rfl, rfl, rfl, rfl, rfl, rfl, rfl, rfl⟩, rfl⟩
end
