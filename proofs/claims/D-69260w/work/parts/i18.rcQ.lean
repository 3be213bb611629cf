/-! RuleEngine (room RE): one round, plain -/
noncomputable def rxAl (hd ki fo ln pt st : Int → Int) (Ho La : Int → Prop) (f s : Int) : Nat → List Int
  | 0 => []
  | k + 1 => rxAl hd ki fo ln pt st Ho La f s k ++ pif (reSel hd ki fo ln pt st s k) (rxGv hd ki fo ln pt Ho La f k) []
/-- how many words a set needs -/
def bsT (P : Int → Prop) (u : Int) : Prop := 0 ≤ u ∧ (∀ q, P q → q < 64 * u) ∧ (0 < u → ∃ q, 64 * (u - 1) ≤ q ∧ P q)
noncomputable def bsU (P : Int → Prop) : Int := Classical.epsilon (bsT P)
theorem bsT.u {P : Int → Prop} {u v : Int} (h : bsT P u) (g : bsT P v) : u = v := by
  have one : ∀ {u v : Int}, bsT P u → bsT P v → u ≤ v := fun {u v} h g => by
    by_cases z : 0 < u
    · obtain ⟨q, hq, p⟩ := h.2.2 z
      have := g.2.1 q p
      omega
    · have := g.1
      omega
  have a := one h g
  have b := one g h
  omega
theorem bsI.ut {kd an : Nat → Nat} {al : Nat → Int → Int} {wd : Nat → Option Nat} {iu : Nat → Int} {x w : Nat} {L : Int} {P : Int → Prop} (B : bsI kd an al wd iu x w L P) : bsT P (iu x) := by
  have t := B.top
  refine ⟨t.1.1, fun q p => ?_, fun z => ?_⟩
  · have h := B.2.2.2 q p
    exact Classical.byContradiction (fun z => bsOK_no B.2.2.1 (by omega) h.2 h.1.1 p)
  · obtain ⟨q, hq, p⟩ := bsOK_top B.2.2.1 z
    exact ⟨q, hq.1, p⟩
theorem bsI.eu {kd an : Nat → Nat} {al : Nat → Int → Int} {wd : Nat → Option Nat} {iu : Nat → Int} {x w : Nat} {L : Int} {P : Int → Prop} (B : bsI kd an al wd iu x w L P) : iu x = bsU P := B.ut.u (Classical.epsilon_spec (p := bsT P) ⟨_, B.ut⟩)
theorem reGr_p {H : Int → Prop} {L : Int} : ∀ m l : List Int, reGr H L l ≤ reGr H L (l ++ m)
  | [], l => by rw [List.append_nil]; exact Int.le_refl _
  | c :: m, l => by
    have a := reGr_p (H := H) (L := L) m (l ++ [c])
    rw [List.append_assoc] at a
    exact Int.le_trans reGr_m a
section
variable {hd ki fo ln pt st rn : Int → Int} {n r s w f round : Int} {Ho La F : Int → Prop} {u v : Int → Int} {M : reM4}
theorem reFo_u {m v a : Int} (hm : 0 ≤ m ∧ m < 16384) (h : rn m < 0) (hv : 0 ≤ v) (ha : 0 ≤ a) : reFo (updI rn m v) a = reFo rn a + if a = m / 1024 then 1 else 0 := by
  unfold reFo
  by_cases z : a = m / 1024
  · rw [if_pos z]
    have e := cntI_u1 (p := fun i => 0 ≤ rn (1024 * a + i)) (q := fun i => 0 ≤ updI rn m v (1024 * a + i)) (x0 := m % 1024) (by omega) (by
      show ¬ 0 ≤ rn (1024 * a + m % 1024)
      rw [show 1024 * a + m % 1024 = m by omega]; omega) (by
      show 0 ≤ updI rn m v (1024 * a + m % 1024)
      rw [show 1024 * a + m % 1024 = m by omega, updI_s]; exact hv) (fun x hx => by
      show 0 ≤ rn (1024 * a + x) ↔ 0 ≤ updI rn m v (1024 * a + x)
      rw [updI_n (by omega)]) 1024
    rw [e, if_pos (by omega)]
  · rw [if_neg z, Int.add_zero]
    refine cntI_c (fun i i0 i1 => ?_)
    show 0 ≤ updI rn m v (1024 * a + i) ↔ 0 ≤ rn (1024 * a + i)
    rw [updI_n (by omega)]
theorem rxAl_pre {k : Nat} : ∀ d : Nat, ∃ m, rxAl hd ki fo ln pt st Ho La f s (k + d) = rxAl hd ki fo ln pt st Ho La f s k ++ m
  | 0 => ⟨[], (List.append_nil _).symm⟩
  | d + 1 => by
    obtain ⟨m, em⟩ := rxAl_pre (k := k) d
    rw [← Nat.add_assoc, rxAl, em, List.append_assoc]
    exact ⟨_, rfl⟩
theorem rxGv_r (I : reI hd ki fo ln pt n) (hr : 0 ≤ r ∧ r < n) (hs : reSf hd ki fo ln pt r) (hlen : ((reCs ln pt Ho r).length : Int) ≤ 1000000) : ∀ c ∈ rxGv hd ki fo ln pt Ho La f r, 0 ≤ c ∧ c < 16384 := fun c hc => by
  obtain ⟨⟨i1, ix, iy⟩, ik, hl, i4⟩ := I.2 r hr.1 hr.2
  unfold rxGv at hc
  by_cases f0 : f = 0
  · rw [if_pos f0] at hc
    by_cases k0 : ki r < 0
    · rw [if_pos k0] at hc
      obtain ⟨i, hi, p0, hm⟩ := rxDl_m _ _ hc
      rw [List.mem_map] at hm
      obtain ⟨u, hu, e⟩ := hm
      have g := (caX_m I hr (ln r).toNat (fun _ => -1) (by omega) (rxG0.resolve_right (fun w => w hl.1)) hu).2.2
      rw [← e]
      exact reCd_b ⟨i1, g.b ix hs.1, g.b iy (hs.2.1 k0)⟩
    · rw [if_neg k0] at hc; exact absurd hc (by simp)
  · rw [if_neg f0] at hc
    exact reHl_r I hr hs hlen c hc
theorem rxLn (I : reI hd ki fo ln pt n) (hw : 0 ≤ w) (hW : reWk hd ki fo ln pt st rn s w n.toNat ≤ 200000) (hr : 0 ≤ r ∧ r < n) (sel : reSel hd ki fo ln pt st s r) : ((reCs ln pt (reHo rn) r).length : Int) ≤ 1000000 := by
  have hl := (I.2 r hr.1 hr.2).2.2.1
  have a := reWk_s (st := st) (rn := rn) (s := s) I hw n.toNat (by omega) r hr.1 (by omega) sel
  have b := reCs_len (F := reHo rn) (rn := rn) (pt := pt) hl.1 (fun c h => h)
  omega
theorem rxAl_r (I : reI hd ki fo ln pt n) (hw : 0 ≤ w) (hW : reWk hd ki fo ln pt st rn s w n.toNat ≤ 200000) : ∀ k : Nat, (k : Int) ≤ n → ∀ c ∈ rxAl hd ki fo ln pt st (reHo rn) La f s k, 0 ≤ c ∧ c < 16384
  | 0, _, c, h => by rw [rxAl] at h; exact absurd h (by simp)
  | k + 1, hk, c, h => by
    rw [rxAl, List.mem_append] at h
    rcases h with h | h
    · exact rxAl_r I hw hW k (by omega) c h
    · by_cases q : reSel hd ki fo ln pt st s k
      · rw [pif_t q] at h
        exact rxGv_r I ⟨by omega, by omega⟩ q.1 (rxLn I hw hW ⟨by omega, by omega⟩ q) c h
      · rw [pif_f q] at h; exact absurd h (by simp)
theorem rxAl_m (I : reI hd ki fo ln pt n) (hst : reLs (reEd hd ki fo ln pt n 1) (reEd hd ki fo ln pt n 2) st) (hs0 : 0 ≤ s) (lv : f = 1 ∨ (f = 0 ∧ rxLv hd ki fo ln pt st n s Ho La)) {c : Int} (nc : ¬ Ho c) : ∀ k : Nat, (k : Int) ≤ n → (c ∈ rxAl hd ki fo ln pt st Ho La f s k ↔ c ∈ reAl hd ki fo ln pt st Ho s k)
  | 0, _ => by rw [rxAl, reAl]
  | k + 1, hk => by
    rw [rxAl, reAl, List.mem_append, List.mem_append]
    refine or_congr (rxAl_m I hst hs0 lv nc k (by omega)) ?_
    by_cases q : reSel hd ki fo ln pt st s k
    · rw [pif_t q, pif_t q]
      rcases lv with e | ⟨e, lv⟩
      · rw [e]
        unfold rxGv
        rw [if_neg (by decide)]
      · rw [e]
        exact rxSn I ⟨by omega, by omega⟩ hst hs0 q lv nc
    · rw [pif_f q, pif_f q]
theorem reCd_q {a b c : Int} (h : reFc a b c) : reCd a b c / 1024 = a := by
  unfold reCd
  unfold reFc at h
  omega
theorem reFh_n {k name : Int} (hn : 0 ≤ name ∧ name < 16) (hM : reMq M M.1 M.2.1 M.2.2.1 M.2.2.2 0) : ∀ (j : Nat) (x : Int), 0 ≤ x → x + j ≤ 32 → ∀ c ∈ reFh k name M j x, c / 1024 = name
  | 0, x, _, _, c, h => by rw [reFh] at h; exact absurd h (by simp)
  | j + 1, x, x0, x1, c, h => by
    rw [reFh, List.mem_append] at h
    rcases h with h | h
    · obtain ⟨_, b1, b2, b3⟩ := hM x x0 (by omega)
      by_cases z : M.1 x = 0
      · rw [if_pos z] at h; exact absurd h (by simp)
      · rw [if_neg z, List.mem_singleton] at h
        have b3 := b3 z
        rw [h]
        refine reCd_q ⟨hn, ⟨x0, by omega⟩, ?_⟩
        split
        · omega
        · split
          · exact b2
          · split
            · exact b3.1
            · exact b3.2
    · exact reFh_n hn hM j (x + 1) (by omega) (by omega) c h
theorem reHl_n (I : reI hd ki fo ln pt n) (hr : 0 ≤ r ∧ r < n) (hs : reSf hd ki fo ln pt r) (hlen : ((reCs ln pt F r).length : Int) ≤ 1000000) : ∀ c ∈ reHl hd ki fo ln pt F r, c / 1024 = hd (3 * r) := fun c hc => by
  obtain ⟨⟨i1, ix, iy⟩, ik, hl, i4⟩ := I.2 r hr.1 hr.2
  unfold reHl at hc
  by_cases k0 : ki r < 0
  · rw [if_pos k0, List.mem_map] at hc
    obtain ⟨u, hu, e⟩ := hc
    rw [← e]
    exact reCd_q ⟨i1, reCs_v I hr hu ix hs.1, reCs_v I hr hu iy (hs.2.1 k0)⟩
  · rw [if_neg k0] at hc
    have f6 := ik.2 k0
    exact reFh_n i1 (reFl_q _ reM0 (fun u hu => ⟨reCs_v I hr hu ix hs.1, reCs_v I hr hu (by unfold reIt; omega) (hs.2.2.1 k0)⟩) (fun x x0 x1 => ⟨⟨rfl, rfl, fun _ => ⟨rfl, rfl⟩⟩, ⟨by show (0 : Int) ≤ 0; decide, by show (0 : Int) + _ ≤ _; omega⟩, by show (0 : Int) ≤ 0 ∧ (0 : Int) < 32; decide, fun z => absurd rfl z⟩)) 32 0 (by decide) (by decide) c hc
theorem reAl_m {c : Int} : ∀ k : Nat, c ∈ reAl hd ki fo ln pt st F s k → ∃ i : Nat, i < k ∧ reSel hd ki fo ln pt st s i ∧ c ∈ reHl hd ki fo ln pt F i
  | 0, h => by rw [reAl] at h; exact absurd h (by simp)
  | k + 1, h => by
    rw [reAl, List.mem_append] at h
    rcases h with h | h
    · obtain ⟨i, hi, q⟩ := reAl_m k h
      exact ⟨i, by omega, q⟩
    · by_cases q : reSel hd ki fo ln pt st s k
      · rw [pif_t q] at h
        exact ⟨k, by omega, q, h⟩
      · rw [pif_f q] at h; exact absurd h (by simp)
theorem reAl_i {c : Int} {i : Nat} (sel : reSel hd ki fo ln pt st s i) (h : c ∈ reHl hd ki fo ln pt F i) : ∀ k : Nat, i < k → c ∈ reAl hd ki fo ln pt st F s k
  | 0, hk => by omega
  | k + 1, hk => by
    rw [reAl, List.mem_append]
    by_cases z : i = k
    · right
      rw [← z, pif_t sel]; exact h
    · exact Or.inl (reAl_i sel h k (by omega))
/-- what is new in a round -/
def rxNx (rn : Int → Int) (Z : List Int) (c : Int) : Prop := c ∈ Z ∧ ¬ reHo rn c
section
variable {Z : List Int}
theorem rxN1 (I : reI hd ki fo ln pt n) (hst : reLs (reEd hd ki fo ln pt n 1) (reEd hd ki fo ln pt n 2) st) (hs0 : 0 ≤ s) (lv : f = 1 ∨ (f = 0 ∧ rxLv hd ki fo ln pt st n s (reHo rn) La)) (hw : 0 ≤ w) (hW : reWk hd ki fo ln pt st rn s w n.toNat ≤ 200000) (hZ : rxAl hd ki fo ln pt st (reHo rn) La f s n.toNat = Z) {c : Int} : rxNx rn Z c ↔ (rn c < 0 ∧ c ∈ reAl hd ki fo ln pt st (reHo rn) s n.toNat) := by
  have hn := I.1
  unfold rxNx
  constructor
  · rintro ⟨hc, nc⟩
    rw [← hZ] at hc
    have b := rxAl_r I hw hW n.toNat (by omega) c hc
    refine ⟨?_, (rxAl_m I hst hs0 lv nc n.toNat (by omega)).1 hc⟩
    unfold reHo at nc
    omega
  · rintro ⟨h, hc⟩
    have nc : ¬ reHo rn c := fun z => by
      unfold reHo at z
      omega
    refine ⟨?_, nc⟩
    rw [← hZ]
    exact (rxAl_m I hst hs0 lv nc n.toNat (by omega)).2 hc
theorem rxR1 (I : reI hd ki fo ln pt n) (hst : reLs (reEd hd ki fo ln pt n 1) (reEd hd ki fo ln pt n 2) st) (hs0 : 0 ≤ s) (lv : f = 1 ∨ (f = 0 ∧ rxLv hd ki fo ln pt st n s (reHo rn) La)) (hw : 0 ≤ w) (hW : reWk hd ki fo ln pt st rn s w n.toNat ≤ 200000) (hZ : rxAl hd ki fo ln pt st (reHo rn) La f s n.toNat = Z) : (fun c => pif (rxNx rn Z c) round (rn c)) = reNx round rn (reAl hd ki fo ln pt st (reHo rn) s n.toNat) := funext fun c => by
  have e := rxN1 I hst hs0 lv hw hW hZ (c := c)
  unfold reNx
  by_cases z : rxNx rn Z c
  · rw [pif_t z, pif_t (e.1 z)]
  · rw [pif_f z, pif_f (fun y => z (e.2 y))]
theorem rxNrg (I : reI hd ki fo ln pt n) (hst : reLs (reEd hd ki fo ln pt n 1) (reEd hd ki fo ln pt n 2) st) (hs0 : 0 ≤ s) (lv : f = 1 ∨ (f = 0 ∧ rxLv hd ki fo ln pt st n s (reHo rn) La)) (hw : 0 ≤ w) (hW : reWk hd ki fo ln pt st rn s w n.toNat ≤ 200000) (hZ : rxAl hd ki fo ln pt st (reHo rn) La f s n.toNat = Z) {c : Int} (h : rxNx rn Z c) : 0 ≤ c ∧ c < 16384 := by
  have hn := I.1
  have hc := h.1
  rw [← hZ] at hc
  exact rxAl_r I hw hW n.toNat (by omega) c hc
theorem rxR2 (I : reI hd ki fo ln pt n) (hst : reLs (reEd hd ki fo ln pt n 1) (reEd hd ki fo ln pt n 2) st) (hs0 : 0 ≤ s) (lv : f = 1 ∨ (f = 0 ∧ rxLv hd ki fo ln pt st n s (reHo rn) La)) (hw : 0 ≤ w) (hW : reWk hd ki fo ln pt st rn s w n.toNat ≤ 200000) (hZ : rxAl hd ki fo ln pt st (reHo rn) La f s n.toNat = Z) (h0 : 0 ≤ round) : reHo (reNx round rn (reAl hd ki fo ln pt st (reHo rn) s n.toNat)) = fun c => reHo rn c ∨ rxNx rn Z c := funext fun c => propext (by
  rw [← rxR1 I hst hs0 lv hw hW hZ]
  by_cases z : rxNx rn Z c
  · have b := rxNrg I hst hs0 lv hw hW hZ z
    refine ⟨fun _ => Or.inr z, fun _ => ⟨b, ?_⟩⟩
    show 0 ≤ pif (rxNx rn Z c) round (rn c)
    rw [pif_t z]; exact h0
  · have e : reHo (fun c => pif (rxNx rn Z c) round (rn c)) c ↔ reHo rn c := by
      unfold reHo
      show _ ∧ 0 ≤ pif (rxNx rn Z c) round (rn c) ↔ _
      rw [pif_f z]
    exact e.trans ⟨Or.inl, fun y => y.resolve_right z⟩)
theorem rxR3 (I : reI hd ki fo ln pt n) (hst : reLs (reEd hd ki fo ln pt n 1) (reEd hd ki fo ln pt n 2) st) (hs0 : 0 ≤ s) (lv : f = 1 ∨ (f = 0 ∧ rxLv hd ki fo ln pt st n s (reHo rn) La)) (hw : 0 ≤ w) (hW : reWk hd ki fo ln pt st rn s w n.toNat ≤ 200000) (hZ : rxAl hd ki fo ln pt st (reHo rn) La f s n.toNat = Z) : rxLv hd ki fo ln pt st n s (fun c => reHo rn c ∨ rxNx rn Z c) (rxNx rn Z) := by
  have hn := I.1
  refine ⟨fun c h => Or.inr h, fun c h => ?_, fun r r0 r1 sel c hc => ?_⟩
  · obtain ⟨_, hA⟩ := (rxN1 I hst hs0 lv hw hW hZ).1 h
    obtain ⟨i, hi, sel, hc⟩ := reAl_m _ hA
    rw [reHl_n I ⟨by omega, by omega⟩ sel.1 (rxLn I hw hW ⟨by omega, by omega⟩ sel) c hc]
    exact sel.2.resolve_left (by omega)
  · have e : (fun c => (reHo rn c ∨ rxNx rn Z c) ∧ ¬ rxNx rn Z c) = reHo rn := funext fun c => propext ⟨fun h => h.1.resolve_right h.2, fun h => ⟨Or.inl h, fun w => w.2 h⟩⟩
    rw [e] at hc
    by_cases z : reHo rn c
    · exact Or.inl z
    · refine Or.inr ⟨?_, z⟩
      rw [← hZ]
      have ei : ((r.toNat : Nat) : Int) = r := by omega
      refine (rxAl_m I hst hs0 lv z n.toNat (by omega)).2 (reAl_i (i := r.toNat) ?_ ?_ n.toNat (by omega))
      · rw [ei]; exact sel
      · rw [ei]; exact hc
theorem rxR4 (I : reI hd ki fo ln pt n) (hst : reLs (reEd hd ki fo ln pt n 1) (reEd hd ki fo ln pt n 2) st) (hs0 : 0 ≤ s) (lv : f = 1 ∨ (f = 0 ∧ rxLv hd ki fo ln pt st n s (reHo rn) La)) (hw : 0 ≤ w) (hW : reWk hd ki fo ln pt st rn s w n.toNat ≤ 200000) (hZ : rxAl hd ki fo ln pt st (reHo rn) La f s n.toNat = Z) (h0 : 0 ≤ round) (h : ∃ c, rxNx rn Z c) : cntI (fun c => reNx round rn (reAl hd ki fo ln pt st (reHo rn) s n.toNat) c < 0) 16384 + 1 ≤ cntI (fun c => rn c < 0) 16384 := by
  obtain ⟨c, hc⟩ := h
  have b := rxNrg I hst hs0 lv hw hW hZ hc
  rw [← rxR1 I hst hs0 lv hw hW hZ]
  refine cntI_ltr (j := c) 16384 (fun i i0 i1 hi => ?_) b.1 (by omega) ((rxN1 I hst hs0 lv hw hW hZ).1 hc).1 ?_
  · by_cases z : rxNx rn Z i
    · exact ((rxN1 I hst hs0 lv hw hW hZ).1 z).1
    · dsimp only at hi
      rw [pif_f z] at hi; exact hi
  · dsimp only
    rw [pif_t hc]; omega
end
end
