/-! HSV: what the house needs to know of the rooms' functions -/
set_option maxRecDepth 100000
theorem hsV_told {V : vsS} {t : Int} (h : vsF V) (ht : 0 ≤ t ∧ t < 200) : (vsTold (vsLatest V) t V).1 = 0 := by
  obtain ⟨u, b, d, S, vr, la, c, wr, se, pn, nt, rf, H, rfl⟩ := h
  have e : vsTold la t (S, vr, (la, c), wr, se, pn, nt, rf) = (0, pif (vtTh vr t la) 1 0) := pif_t ⟨vsTe_la H.2.2.1.1, ht.1, ht.2⟩
  show (vsTold la t (S, vr, (la, c), wr, se, pn, nt, rf)).1 = 0
  rw [e]
theorem hsOn_o (V : vsS) (t : Int) : hsOn V t = 0 ∨ hsOn V t = 1 := by
  obtain ⟨S, vr, ⟨la, c⟩, wr, se, pn, R⟩ := V
  show (vsTold la t (S, vr, (la, c), wr, se, pn, R)).2 = 0 ∨ (vsTold la t (S, vr, (la, c), wr, se, pn, R)).2 = 1
  by_cases a : vtTe la pn se S.st c la ∧ 0 ≤ t ∧ t < 200
  · rw [show vsTold la t (S, vr, (la, c), wr, se, pn, R) = (0, pif (vtTh vr t la) 1 0) from pif_t a]
    by_cases b : vtTh vr t la
    · exact Or.inr (pif_t b)
    · exact Or.inl (pif_f b)
  · rw [show vsTold la t (S, vr, (la, c), wr, se, pn, R) = (1, 0) from pif_f a]
    exact Or.inl rfl
theorem hsV_cy {st wf : Int → Int} {c : Int} (hS : ∀ w, 0 ≤ w → w < c → st w = 1 → 0 ≤ wf w ∧ wf w < c) (h0 : 0 ≤ wf c ∧ wf c < c) : ¬ ∃ n, vtCy st wf c n := by
  rintro ⟨n, ⟨h1, h2⟩, e, hs, hn⟩
  have key : ∀ i : Nat, 1 ≤ i → i ≤ n → 0 ≤ vtP wf c i ∧ vtP wf c i < c := by
    intro i
    induction i with
    | zero => intro a; omega
    | succ i ih =>
      intro _ b
      by_cases z : i = 0
      · subst z; exact h0
      · have q := ih (by omega) (by omega)
        exact hS _ q.1 q.2 (hs i (by omega))
  have := key n h1 (Nat.le_refl _)
  omega
theorem hsV_w {S : VS} {c t on la : Int} {wr se : Int → Int} {vr : Int → Int → Int} (hI : vI c wr S) (hQ : S.Q = []) (hV : tvVr vr la) (hc : 0 ≤ c) (ht : 0 ≤ t ∧ t < 200) :
    (vWrite (c + 1) vr (updI se c la) c t on (vsNw c S)).Q = [] ∧ ((vWrite (c + 1) vr (updI se c la) c t on (vsNw c S)).st c = 0 ∨ (vWrite (c + 1) vr (updI se c la) c t on (vsNw c S)).st c = 1) := by
  have sc : (updI se c la) c = la := if_pos rfl
  have a : ¬ vtAb vr t ((updI se c la) c) := by
    rw [sc]
    rintro ⟨v, v1, v2⟩
    have := (hV t v v2).2.1
    omega
  by_cases b : 0 ≤ (vsNw c S).ho t ∧ (vsNw c S).ho t ≠ c
  · have hk : 0 ≤ S.ho t ∧ S.ho t < c := by
      have b1 : 0 ≤ S.ho t := b.1
      rcases hI.1.2.1 t ht.1 ht.2 with q | q
      · omega
      · exact q.1
    have cy : ¬ ∃ n, vtCy (updI (updI (vsNw c S).st c 0) c 1) (updI (updI (vsNw c S).wf c (-1)) c ((vsNw c S).ho t)) c n := by
      refine hsV_cy (fun w w0 w1 ws => ?_) ?_
      · have ne : ¬ w = c := by omega
        have s1 : S.st w = 1 := by
          have : updI (updI (updI S.st c 0) c 0) c 1 w = 1 := ws
          simpa [updI, ne] using this
        have q := (hI.1.1.1 w w0 w1 s1).1
        show 0 ≤ updI (updI (updI S.wf c (-1)) c (-1)) c (S.ho t) w ∧ updI (updI (updI S.wf c (-1)) c (-1)) c (S.ho t) w < c
        simpa [updI, ne] using q
      · show 0 ≤ updI (updI (updI S.wf c (-1)) c (-1)) c (S.ho t) c ∧ updI (updI (updI S.wf c (-1)) c (-1)) c (S.ho t) c < c
        simpa [updI] using hk
    have e : vWrite (c + 1) vr (updI se c la) c t on (vsNw c S) = VS.mk (updI (updI (vsNw c S).st c 0) c 1) (vsNw c S).ws (updI (updI (vsNw c S).wf c (-1)) c ((vsNw c S).ho t)) (updI (vsNw c S).wt c t) (updI (vsNw c S).wl c on) (updI (vsNw c S).si c (vsNw c S).ck) ((vsNw c S).ck + 1) (vsNw c S).ho (vsNw c S).Q (vsNw c S).R (vsNw c S).fl :=
      (pif_f a).trans ((pif_t b).trans (pif_f cy))
    rw [e]
    exact ⟨hQ, Or.inr (if_pos rfl)⟩
  · have e : vWrite (c + 1) vr (updI se c la) c t on (vsNw c S) = VS.mk (updI (vsNw c S).st c 0) (updI (vsNw c S).ws (200 * c + t) (if on = 0 then 1 else 2)) (updI (vsNw c S).wf c (-1)) (vsNw c S).wt (vsNw c S).wl (vsNw c S).si (vsNw c S).ck (updI (vsNw c S).ho t c) (vsNw c S).Q (vsNw c S).R (vsNw c S).fl :=
      (pif_f a).trans (pif_f b)
    rw [e]
    exact ⟨hQ, Or.inl (if_pos rfl)⟩
theorem hsV_say {V : vsS} {t on : Int} (h : vsF V) (ht : 0 ≤ t ∧ t < 200) : (vsBegin V).1 = 0 ∧ 0 ≤ (vsBegin V).2.1 ∧ (vsPut (vsBegin V).2.1 t on (vsBegin V).2.2).1 = 0 ∧
    (¬ (vsPut (vsBegin V).2.1 t on (vsBegin V).2.2).2.1 = 1 → (vsAbort (vsBegin V).2.1 (vsPut (vsBegin V).2.1 t on (vsBegin V).2.2).2.2).1 = 0) ∧
    ((vsPut (vsBegin V).2.1 t on (vsBegin V).2.2).2.1 = 1 → (vsCommit (vsBegin V).2.1 (vsPut (vsBegin V).2.1 t on (vsBegin V).2.2).2.2).1 = 0 ∧ ((vsCommit (vsBegin V).2.1 (vsPut (vsBegin V).2.1 t on (vsBegin V).2.2).2.2).2.1 ≤ vsLatest V ↔ vsLatest (vsCommit (vsBegin V).2.1 (vsPut (vsBegin V).2.1 t on (vsBegin V).2.2).2.2).2.2 ≤ vsLatest V)) := by
  obtain ⟨u, b, d, S, vr, la, c, wr, se, pn, nt, rf, H, rfl⟩ := h
  have hla := H.2.1.1
  have hc := H.2.2.1
  have W := hsV_w (on := on) (se := se) H.2.2.2.2.2.2.1.1 H.2.2.2.2.2.2.1.2 H.2.2.2.1 hc.1 ht
  have wr1 : ¬ updI wr c 1 c = 0 := by rw [show updI wr c 1 c = 1 from if_pos rfl]; decide
  have st0 : (vsNw c S).st c = 0 := if_pos rfl
  have e1 : vsPut c t on (vsNw c S, vr, (la, c + 1), updI wr c 1, updI se c la, pn, nt, rf) = (0, vPu ((vG (c + 1) vr (updI se c la) (vWrite (c + 1) vr (updI se c la) c t on (vsNw c S))).st c), (vG (c + 1) vr (updI se c la) (vWrite (c + 1) vr (updI se c la) c t on (vsNw c S)), vr, (la, c + 1), updI wr c 1, updI se c la, pn, nt, rf)) :=
    (if_pos ⟨⟨hc.1, by omega⟩, ht⟩).trans (if_pos ⟨st0, wr1⟩)
  rw [vG_e W.1] at e1
  generalize vWrite (c + 1) vr (updI se c la) c t on (vsNw c S) = w at W e1
  show (0 : Nat) = 0 ∧ 0 ≤ c ∧ (vsPut c t on (vsNw c S, vr, (la, c + 1), updI wr c 1, updI se c la, pn, nt, rf)).1 = 0 ∧
    (¬ (vsPut c t on (vsNw c S, vr, (la, c + 1), updI wr c 1, updI se c la, pn, nt, rf)).2.1 = 1 → (vsAbort c (vsPut c t on (vsNw c S, vr, (la, c + 1), updI wr c 1, updI se c la, pn, nt, rf)).2.2).1 = 0) ∧
    ((vsPut c t on (vsNw c S, vr, (la, c + 1), updI wr c 1, updI se c la, pn, nt, rf)).2.1 = 1 → (vsCommit c (vsPut c t on (vsNw c S, vr, (la, c + 1), updI wr c 1, updI se c la, pn, nt, rf)).2.2).1 = 0 ∧ ((vsCommit c (vsPut c t on (vsNw c S, vr, (la, c + 1), updI wr c 1, updI se c la, pn, nt, rf)).2.2).2.1 ≤ la ↔ vsLatest (vsCommit c (vsPut c t on (vsNw c S, vr, (la, c + 1), updI wr c 1, updI se c la, pn, nt, rf)).2.2).2.2 ≤ la))
  rw [e1]
  refine ⟨rfl, hc.1, rfl, fun z => ?_, fun z => ?_⟩
  · have e2 : vsAbort c (w, vr, (la, c + 1), updI wr c 1, updI se c la, pn, nt, rf) = (0, vtWs 200 w.ws c, (vG (c + 1) vr (updI se c la) (vEnd (c + 1) c 4 w), vr, (la, c + 1), updI wr c 1, updI se c la, pn, nt, rf)) :=
      (if_pos ⟨hc.1, by omega⟩).trans (if_pos (by rcases W.2 with q | q <;> rw [q] <;> decide))
    show (vsAbort c (w, vr, (la, c + 1), updI wr c 1, updI se c la, pn, nt, rf)).1 = 0
    rw [e2]
  · have q : w.st c = 0 := by
      rcases W.2 with q | q
      · exact q
      · exfalso
        have z' : vPu (w.st c) = 1 := z
        rw [q] at z'
        exact absurd z' (by decide)
    have e2 : vsCommit c (w, vr, (la, c + 1), updI wr c 1, updI se c la, pn, nt, rf) = (if 0 ≤ vsFg vr nt (updI se c la) c then (0, 0, (vG (c + 1) vr (updI se c la) (vEnd (c + 1) c 4 w), vr, (la, c + 1), updI wr c 1, updI se c la, pn, nt, updI rf (vsFg vr nt (updI se c la) c) (rf (vsFg vr nt (updI se c la) c) + 1))) else (0, pif (vMa vr w.ws (updI se c la) c 200) (la + 1) (updI se c la c), (vG (c + 1) (vCm vr w.ws (updI se c la) c la 200) (updI se c la) (vEnd (c + 1) c 3 w), vCm vr w.ws (updI se c la) c la 200, (pif (vMa vr w.ws (updI se c la) c 200) (la + 1) la, c + 1), updI wr c 1, updI se c la, pn, nt, rf))) :=
      (if_pos ⟨hc.1, by omega⟩).trans ((if_pos (Or.inl q)).trans (if_neg (by rw [q]; decide)))
    show (vsCommit c (w, vr, (la, c + 1), updI wr c 1, updI se c la, pn, nt, rf)).1 = 0 ∧ ((vsCommit c (w, vr, (la, c + 1), updI wr c 1, updI se c la, pn, nt, rf)).2.1 ≤ la ↔ vsLatest (vsCommit c (w, vr, (la, c + 1), updI wr c 1, updI se c la, pn, nt, rf)).2.2 ≤ la)
    rw [e2]
    by_cases g : 0 ≤ vsFg vr nt (updI se c la) c
    · rw [if_pos g]
      refine ⟨rfl, ?_⟩
      show (0 ≤ la ↔ la ≤ la)
      omega
    · rw [if_neg g]
      refine ⟨rfl, ?_⟩
      show (pif (vMa vr w.ws (updI se c la) c 200) (la + 1) (updI se c la c) ≤ la ↔ pif (vMa vr w.ws (updI se c la) c 200) (la + 1) la ≤ la)
      rw [show updI se c la c = la from if_pos rfl]
theorem csKt_end {p : Int → Prop} {N : Nat} {i : Int} (h : (N : Int) ≤ i) : csKt p N i < 0 := by
  have b := cntI_b p
  rw [csKt_n (fun j j0 j1 => ?_)]
  · decide
  · rintro ⟨pj, ej⟩
    have := b j.toNat
    omega
/-- no class has more than 20 parents -/
theorem hsC_par {C : ctT} {a i : Int} (h : ctF C) (hi : 20 ≤ i) : ctParent a i C < 0 := by
  obtain ⟨n, f, t, m, so, qs, L, O, R, Th, s, me, pl, hn, rfl⟩ := h
  show (if 0 ≤ a ∧ a < n then (if so = 0 then -3 else csKt (csPp n s pl a) n.toNat i) else -1) < 0
  split
  · split
    · decide
    · exact csKt_end (by omega)
  · decide
theorem hsC_cnt {C : ctT} (h : ctF C) : 0 ≤ ctCount 0 C ∧ ctCount 0 C ≤ 20 := by
  obtain ⟨n, f, t, m, so, qs, L, O, R, Th, s, me, pl, hn, rfl⟩ := h
  show 0 ≤ csCt n t m qs so Th s pl 0 ∧ csCt n t m qs so Th s pl 0 ≤ 20
  unfold csCt
  rw [if_pos rfl]
  exact hn
theorem hsT_run (T : vrS) : (vrRun T).1 ≤ 300 := by
  obtain ⟨⟨c, sz, ky⟩, ⟨mp, M⟩, ⟨at_, n⟩, ⟨sp, sc⟩, R⟩ := T
  show vRun c sz ky mp at_ sp sc M n ≤ 300
  unfold vRun
  split
  · omega
  · split
    · exact (vRn_st (vUc mp at_ M n)).1.2
    · decide
theorem hsD_part {S : dvS} {v i : Int} (h : dqF S) : ¬ dqPart v i S = -9223372036854775808 := by
  obtain ⟨tp, sz, c, kn, on, tw, bt, os, o, H, rfl⟩ := h
  show ¬ (if 0 ≤ v ∧ v < c then (if i = 0 then on v else if i = 1 then tw v else 0) else 0) = -9223372036854775808
  split
  · rename_i hv
    have q := (H.2 v hv.1 hv.2).1
    have d1 : dvOf 1 1 1 = -719162 := by decide
    have d2 : dvOf 10000 1 1 = 2932897 := by decide
    unfold dvOv at q
    rw [d1, d2] at q
    have k0 := q.1
    have : -9223372036854775808 < on v ∧ -9223372036854775808 < tw v := by
      have q' := q.2
      rcases (by omega : kn v ≤ 2 ∨ kn v = 3 ∨ (kn v = 4 ∨ kn v = 5) ∨ kn v = 6 ∨ 6 < kn v) with z | z | z | z | z
      · have := q'.1 z; omega
      · have := q'.2.1 z; omega
      · have := q'.2.2.1 z; omega
      · have := q'.2.2.2.1 z; omega
      · have := q'.2.2.2.2 z; omega
    split
    · omega
    · split
      · omega
      · decide
  · decide
