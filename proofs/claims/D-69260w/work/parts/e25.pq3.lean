/-! ProofChecker: the reference (X50) does what a call does -/
def pqIR (ph ax : Int → Int) (na : Int) (tr : Int → Int) (nt : Int) (ru ins ct pr : Int → Int) (n br : Int) (t : Int → Int) (s : Int) (S : pqT) : Prop := ∃ ru0 ins0 ct0 pr0 tx, (pcI ru ins ct pr na nt n ∧ pcAx ax na ∧ pcTr tr nt) ∧ (∀ i, 0 ≤ i → i < 98 → ph i = pcTab i) ∧ (txB t s tx ∧ tx.length ≤ 200) ∧ pcEr ru ins ct pr ru0 ins0 ct0 pr0 n ∧ S = ((ax, na), (tr, nt), (ru0, ins0, ct0, pr0, n), br, tx)
section
variable {ph ax tr ru ins ct pr t st mk sz pl : Int → Int} {na nt n br s k a b c r i p o root w x : Int} {S : pqT}
theorem pcE_rf : pcE ax ax na tr tr nt := ⟨fun _ _ _ _ _ _ => rfl, fun _ _ _ _ _ _ => rfl⟩
theorem Q50_axiom {post : Int → (Int → Int) → Int → Prop} (R : pqIR ph ax na tr nt ru ins ct pr n br t s S) (h : ∀ ax' na', pqIR ph ax' na' tr nt ru ins ct pr n br t s ((pqAxiom k a b S).2) → post (pqAxiom k a b S).1 ax' na') : wpX50_axiom post ax na k a b := by
  obtain ⟨ru0, ins0, ct0, pr0, tx, ⟨hI, hA, hT⟩, hph, ⟨hB, hl⟩, E, rfl⟩ := R
  have hP := hI.prm
  have hS : ∀ r, 1 ≤ r → r ≤ n → pcS ax tr ru ins ct pr r = pcS ax tr ru0 ins0 ct0 pr0 r := fun r r0 r1 => pcS_c hI.2.2.2 pcE_rf E r.toNat r0 (by omega) r1
  refine T50_axiom hI.2.1 (fun f => ?_) (fun f z => ?_) (fun f z c e1 e2 => ?_)
  · have e : pqAxiom k a b ((ax, na), (tr, nt), (ru0, ins0, ct0, pr0, n), br, tx) = (-2, ((ax, na), (tr, nt), (ru0, ins0, ct0, pr0, n), br, tx)) := pif_f f
    rw [e] at h
    exact h _ _ ⟨_, _, _, _, _, ⟨hI, hA, hT⟩, hph, ⟨hB, hl⟩, E, rfl⟩
  · have e : pqAxiom k a b ((ax, na), (tr, nt), (ru0, ins0, ct0, pr0, n), br, tx) = (-4, ((ax, na), (tr, nt), (ru0, ins0, ct0, pr0, n), br, tx)) := (pif_t f).trans (if_pos z)
    rw [e] at h
    exact h _ _ ⟨_, _, _, _, _, ⟨hI, hA, hT⟩, hph, ⟨hB, hl⟩, E, rfl⟩
  · have ec : pif (pcSg k) 0 b = c := by
      by_cases y : pcSg k
      · rw [pif_t y, e1 y]
      · rw [pif_f y, e2 y]
    have e : pqAxiom k a b ((ax, na), (tr, nt), (ru0, ins0, ct0, pr0, n), br, tx) = (na + 1, ((pcLy ax (na + 1) k a (pif (pcSg k) 0 b) 0, na + 1), (tr, nt), (ru0, ins0, ct0, pr0, n), br, tx)) := (pif_t f).trans (if_neg z)
    rw [e, ec] at h
    exact h _ _ ⟨_, _, _, _, _, ⟨⟨hI.1, by have := hI.2.1; omega, hI.2.2.1, fun r r0 r1 => pcRw_m (hI.2.2.2 r r0 r1) (by omega) (Int.le_refl _)⟩, hA.ly f ⟨e1, e2⟩, hT⟩, hph, ⟨hB, hl⟩, E, rfl⟩
theorem Q50_triple {post : Int → (Int → Int) → Int → Prop} (R : pqIR ph ax na tr nt ru ins ct pr n br t s S) (h : ∀ tr' nt', pqIR ph ax na tr' nt' ru ins ct pr n br t s ((pqTriple a b c S).2) → post (pqTriple a b c S).1 tr' nt') : wpX50_triple post tr nt a b c := by
  obtain ⟨ru0, ins0, ct0, pr0, tx, ⟨hI, hA, hT⟩, hph, ⟨hB, hl⟩, E, rfl⟩ := R
  have hP := hI.prm
  have hS : ∀ r, 1 ≤ r → r ≤ n → pcS ax tr ru ins ct pr r = pcS ax tr ru0 ins0 ct0 pr0 r := fun r r0 r1 => pcS_c hI.2.2.2 pcE_rf E r.toNat r0 (by omega) r1
  have nt0 := hI.2.2.1
  refine T50_triple nt0 (fun f => ?_) (fun f k k0 k1 e ne => ?_) (fun f ne z => ?_) (fun f ne z => ?_)
  · have e : pqTriple a b c ((ax, na), (tr, nt), (ru0, ins0, ct0, pr0, n), br, tx) = (-2, ((ax, na), (tr, nt), (ru0, ins0, ct0, pr0, n), br, tx)) := pif_f f
    rw [e] at h
    exact h _ _ ⟨_, _, _, _, _, ⟨hI, hA, hT⟩, hph, ⟨hB, hl⟩, E, rfl⟩
  · have ek := pqFi_1 k0 k1 e ne
    have e : pqTriple a b c ((ax, na), (tr, nt), (ru0, ins0, ct0, pr0, n), br, tx) = (pqFi tr nt a b c, ((ax, na), (tr, nt), (ru0, ins0, ct0, pr0, n), br, tx)) := (pif_t f).trans (if_pos (by rw [ek]; exact k1))
    rw [e, ek] at h
    exact h _ _ ⟨_, _, _, _, _, ⟨hI, hA, hT⟩, hph, ⟨hB, hl⟩, E, rfl⟩
  · have ek := pqFi_2 nt0.1 ne
    have e : pqTriple a b c ((ax, na), (tr, nt), (ru0, ins0, ct0, pr0, n), br, tx) = (-4, ((ax, na), (tr, nt), (ru0, ins0, ct0, pr0, n), br, tx)) := (pif_t f).trans ((if_neg (by rw [ek]; omega)).trans (if_pos z))
    rw [e] at h
    exact h _ _ ⟨_, _, _, _, _, ⟨hI, hA, hT⟩, hph, ⟨hB, hl⟩, E, rfl⟩
  · have ek := pqFi_2 nt0.1 ne
    have e : pqTriple a b c ((ax, na), (tr, nt), (ru0, ins0, ct0, pr0, n), br, tx) = (nt + 1, ((ax, na), (pcLy tr (nt + 1) 11 a b c, nt + 1), (ru0, ins0, ct0, pr0, n), br, tx)) := (pif_t f).trans ((if_neg (by rw [ek]; omega)).trans (if_neg z))
    rw [e] at h
    exact h _ _ ⟨_, _, _, _, _, ⟨⟨hI.1, hI.2.1, by omega, fun r r0 r1 => pcRw_m (hI.2.2.2 r r0 r1) (Int.le_refl _) (by omega)⟩, hA, hT.ly f⟩, hph, ⟨hB, hl⟩, E, rfl⟩
theorem Q50_row {post : Int → (Int → Int) → (Int → Int) → (Int → Int) → (Int → Int) → Int → Prop} (R : pqIR ph ax na tr nt ru ins ct pr n br t s S) (h : ∀ ru' ins' ct' pr' n', pqIR ph ax na tr nt ru' ins' ct' pr' n' br t s ((pqRow r i p S).2) → post (pqRow r i p S).1 ru' ins' ct' pr' n') : wpX50_row post na nt ru ins ct pr n r i p := by
  obtain ⟨ru0, ins0, ct0, pr0, tx, ⟨hI, hA, hT⟩, hph, ⟨hB, hl⟩, E, rfl⟩ := R
  have hP := hI.prm
  have hS : ∀ r, 1 ≤ r → r ≤ n → pcS ax tr ru ins ct pr r = pcS ax tr ru0 ins0 ct0 pr0 r := fun r r0 r1 => pcS_c hI.2.2.2 pcE_rf E r.toNat r0 (by omega) r1
  refine T50_row hI.1 (fun f => ?_) (fun f pr' e1 e2 ct' e3 => ?_)
  · have e : pqRow r i p ((ax, na), (tr, nt), (ru0, ins0, ct0, pr0, n), br, tx) = (0, ((ax, na), (tr, nt), (ru0, ins0, ct0, pr0, n), br, tx)) := pif_f f
    rw [e] at h
    exact h _ _ _ _ _ ⟨_, _, _, _, _, ⟨hI, hA, hT⟩, hph, ⟨hB, hl⟩, E, rfl⟩
  · have e : pqRow r i p ((ax, na), (tr, nt), (ru0, ins0, ct0, pr0, n), br, tx) = (n + 1, ((ax, na), (tr, nt), (updI ru0 (n + 1) r, updI ins0 (n + 1) i, updI ct0 (n + 1) (if p = 0 then 0 else 1), (if p = 0 then pr0 else updI pr0 (3 * (n + 1)) p), n + 1), br, tx)) := pif_t f
    rw [e] at h
    refine h _ _ _ _ _ ⟨_, _, _, _, _, ⟨hI.row f e1 e2 e3, hA, hT⟩, hph, ⟨hB, hl⟩, fun q q0 q1 => ?_, rfl⟩
    by_cases y : q = n + 1
    · rw [y, updI_s, updI_s, updI_s, updI_s, e3, updI_s, updI_s]
      refine ⟨⟨rfl, rfl, rfl⟩, fun j j0 j1 => ?_⟩
      by_cases z : p = 0
      · rw [if_pos z] at j1; omega
      · rw [if_neg z] at j1
        rw [if_neg z, e2 z, show 3 * (n + 1) + j = 3 * (n + 1) by omega, updI_s, updI_s]
    · obtain ⟨⟨a1, a2, a3⟩, a4⟩ := E q q0 (by omega)
      have tb := pcT_b (ru q)
      have cb := (hI.2.2.2 q q0 (by omega)).2.1
      rw [updI_n y, updI_n y, updI_n y, updI_n y, e3, updI_n y, updI_n y]
      refine ⟨⟨a1, a2, a3⟩, fun j j0 j1 => ?_⟩
      by_cases z : p = 0
      · rw [if_pos z, e1 z]; exact a4 j j0 j1
      · rw [if_neg z, e2 z, updI_n (by omega), updI_n (by omega)]; exact a4 j j0 j1
theorem Q50_premise {post : Int → (Int → Int) → (Int → Int) → Prop} (R : pqIR ph ax na tr nt ru ins ct pr n br t s S) (h : ∀ ct' pr', pqIR ph ax na tr nt ru ins ct' pr' n br t s ((pqPremise r o S).2) → post (pqPremise r o S).1 ct' pr') : wpX50_premise post ru ct pr n r o := by
  obtain ⟨ru0, ins0, ct0, pr0, tx, ⟨hI, hA, hT⟩, hph, ⟨hB, hl⟩, E, rfl⟩ := R
  have hP := hI.prm
  have hS : ∀ r, 1 ≤ r → r ≤ n → pcS ax tr ru ins ct pr r = pcS ax tr ru0 ins0 ct0 pr0 r := fun r r0 r1 => pcS_c hI.2.2.2 pcE_rf E r.toNat r0 (by omega) r1
  have er : 1 ≤ r → r ≤ n → ct0 r = ct r ∧ ru0 r = ru r := fun r0 r1 => ⟨(E r r0 r1).1.2.2, (E r r0 r1).1.1⟩
  refine T50_premise hI (fun f => ?_) (fun f z => ?_) (fun f z => ?_)
  · have e : pqPremise r o ((ax, na), (tr, nt), (ru0, ins0, ct0, pr0, n), br, tx) = (-1, ((ax, na), (tr, nt), (ru0, ins0, ct0, pr0, n), br, tx)) := if_neg f
    rw [e] at h
    exact h _ _ ⟨_, _, _, _, _, ⟨hI, hA, hT⟩, hph, ⟨hB, hl⟩, E, rfl⟩
  · obtain ⟨e1, e2⟩ := er f.1.1 f.1.2
    have e : pqPremise r o ((ax, na), (tr, nt), (ru0, ins0, ct0, pr0, n), br, tx) = (-3, ((ax, na), (tr, nt), (ru0, ins0, ct0, pr0, n), br, tx)) := (if_pos f).trans (if_neg (by rw [e1, e2]; exact z))
    rw [e] at h
    exact h _ _ ⟨_, _, _, _, _, ⟨hI, hA, hT⟩, hph, ⟨hB, hl⟩, E, rfl⟩
  · obtain ⟨e1, e2⟩ := er f.1.1 f.1.2
    have e : pqPremise r o ((ax, na), (tr, nt), (ru0, ins0, ct0, pr0, n), br, tx) = (ct0 r + 1, ((ax, na), (tr, nt), (ru0, ins0, updI ct0 r (ct0 r + 1), updI pr0 (3 * r + ct0 r) o, n), br, tx)) := (if_pos f).trans (if_pos (by rw [e1, e2]; exact z))
    rw [e, e1] at h
    refine h _ _ ⟨_, _, _, _, _, ⟨hI.prem f.1 ⟨f.2.1, z.1⟩ z.2, hA, hT⟩, hph, ⟨hB, hl⟩, fun q q0 q1 => ?_, rfl⟩
    obtain ⟨⟨a1, a2, a3⟩, a4⟩ := E q q0 q1
    have tb := pcT_b (ru q)
    have cb := (hI.2.2.2 q q0 q1).2.1
    have tr_ := pcT_b (ru r)
    have cr := (hI.2.2.2 r f.1.1 f.1.2).2.1
    by_cases y : q = r
    · subst y
      rw [updI_s, updI_s]
      refine ⟨⟨a1, a2, rfl⟩, fun j j0 j1 => ?_⟩
      by_cases u : j = ct q
      · rw [u, updI_s, updI_s]
      · rw [updI_n (by omega), updI_n (by omega)]; exact a4 j j0 (by omega)
    · rw [updI_n y, updI_n y]
      refine ⟨⟨a1, a2, a3⟩, fun j j0 j1 => ?_⟩
      rw [updI_n (by omega), updI_n (by omega)]
      exact a4 j j0 j1
theorem Q50_check {post : Int → (Int → Int) → (Int → Int) → Int → Prop} (R : pqIR ph ax na tr nt ru ins ct pr n br t s S) (h : ∀ st' mk' br', pqIR ph ax na tr nt ru ins ct pr n br' t s ((pqCheck root S).2) → post (pqCheck root S).1 st' mk' br') : wpX50_check post ax tr ru ins ct pr n st mk br root := by
  obtain ⟨ru0, ins0, ct0, pr0, tx, ⟨hI, hA, hT⟩, hph, ⟨hB, hl⟩, E, rfl⟩ := R
  have hP := hI.prm
  have hS : ∀ r, 1 ≤ r → r ≤ n → pcS ax tr ru ins ct pr r = pcS ax tr ru0 ins0 ct0 pr0 r := fun r r0 r1 => pcS_c hI.2.2.2 pcE_rf E r.toNat r0 (by omega) r1
  refine T50_check hI (fun st' mk' => ?_)
  have e1 : pcChk ct pr (pcS ax tr ru ins ct pr) n root = pcChk ct0 pr0 (pcS ax tr ru0 ins0 ct0 pr0) n root := by
    unfold pcChk
    by_cases f : 1 ≤ root ∧ root ≤ n
    · rw [if_pos f, if_pos f, hS root f.1 f.2]
    · rw [if_neg f, if_neg f]
  have e2 : pcChB ct pr (pcS ax tr ru ins ct pr) n root br = pcChB ct0 pr0 (pcS ax tr ru0 ins0 ct0 pr0) n root br := by
    unfold pcChB
    by_cases f : 1 ≤ root ∧ root ≤ n
    · rw [if_pos f, if_pos f, pcBr_c E hP hS f root.toNat (by omega)]
    · rw [if_neg f, if_neg f]
  rw [e1, e2]
  exact h _ _ _ ⟨_, _, _, _, _, ⟨hI, hA, hT⟩, hph, ⟨hB, hl⟩, E, rfl⟩
theorem Q50_broken {post : Int → Prop} (R : pqIR ph ax na tr nt ru ins ct pr n br t s S) (h : post (pqBroken S)) : wpX50_broken post br := by
  obtain ⟨ru0, ins0, ct0, pr0, tx, ⟨hI, hA, hT⟩, hph, ⟨hB, hl⟩, E, rfl⟩ := R
  have hP := hI.prm
  have hS : ∀ r, 1 ≤ r → r ≤ n → pcS ax tr ru ins ct pr r = pcS ax tr ru0 ins0 ct0 pr0 r := fun r r0 r1 => pcS_c hI.2.2.2 pcE_rf E r.toNat r0 (by omega) r1
  unfold wpX50_broken
  exact h
theorem Q50_rows {post : Int → (Int → Int) → Prop} (R : pqIR ph ax na tr nt ru ins ct pr n br t s S) (h : ∀ mk', post (pqRows root S) mk') : wpX50_rows post ct pr n mk root := by
  obtain ⟨ru0, ins0, ct0, pr0, tx, ⟨hI, hA, hT⟩, hph, ⟨hB, hl⟩, E, rfl⟩ := R
  have hP := hI.prm
  have hS : ∀ r, 1 ≤ r → r ≤ n → pcS ax tr ru ins ct pr r = pcS ax tr ru0 ins0 ct0 pr0 r := fun r r0 r1 => pcS_c hI.2.2.2 pcE_rf E r.toNat r0 (by omega) r1
  refine T50_rows hI (fun mk' => ?_)
  have e : pcRows ct pr n root = pcRows ct0 pr0 n root := by
    unfold pcRows
    by_cases f : 1 ≤ root ∧ root ≤ n
    · rw [if_pos f, if_pos f, pcCt_c E f.2 root.toNat (by omega)]
    · rw [if_neg f, if_neg f]
  rw [e]
  exact h _
theorem Q50_size {post : Int → (Int → Int) → Prop} (R : pqIR ph ax na tr nt ru ins ct pr n br t s S) (h : ∀ sz', post (pqSize root S) sz') : wpX50_size post ct pr n sz root := by
  obtain ⟨ru0, ins0, ct0, pr0, tx, ⟨hI, hA, hT⟩, hph, ⟨hB, hl⟩, E, rfl⟩ := R
  have hP := hI.prm
  have hS : ∀ r, 1 ≤ r → r ≤ n → pcS ax tr ru ins ct pr r = pcS ax tr ru0 ins0 ct0 pr0 r := fun r r0 r1 => pcS_c hI.2.2.2 pcE_rf E r.toNat r0 (by omega) r1
  refine T50_size hI (fun sz' => ?_)
  have e : pcSize ct pr n root = pcSize ct0 pr0 n root := by
    unfold pcSize
    by_cases f : 1 ≤ root ∧ root ≤ n
    · rw [if_pos f, if_pos f, pcSz_c hI.2.2.2 E root.toNat f.1 (by omega) f.2]
    · rw [if_neg f, if_neg f]
  rw [e]
  exact h _
theorem Q50_name {post : Int → Prop} (R : pqIR ph ax na tr nt ru ins ct pr n br t s S) (h : post (pqName root S)) : wpX50_name post ru n root := by
  obtain ⟨ru0, ins0, ct0, pr0, tx, ⟨hI, hA, hT⟩, hph, ⟨hB, hl⟩, E, rfl⟩ := R
  have hP := hI.prm
  have hS : ∀ r, 1 ≤ r → r ≤ n → pcS ax tr ru ins ct pr r = pcS ax tr ru0 ins0 ct0 pr0 r := fun r r0 r1 => pcS_c hI.2.2.2 pcE_rf E r.toNat r0 (by omega) r1
  refine T50_name hI.1.2 ?_
  have e : pqName root ((ax, na), (tr, nt), (ru0, ins0, ct0, pr0, n), br, tx) = if 1 ≤ root ∧ root ≤ n then ru root else -1 := by
    show (if 1 ≤ root ∧ root ≤ n then ru0 root else -1) = _
    by_cases f : 1 ≤ root ∧ root ≤ n
    · rw [if_pos f, if_pos f, (E root f.1 f.2).1.1]
    · rw [if_neg f, if_neg f]
  rw [← e]
  exact h
theorem Q50_states {post : Int → (Int → Int) → Prop} (R : pqIR ph ax na tr nt ru ins ct pr n br t s S) (h : ∀ st', post (pqStates root w S) st') : wpX50_states post ax tr ru ins ct pr n st root w := by
  obtain ⟨ru0, ins0, ct0, pr0, tx, ⟨hI, hA, hT⟩, hph, ⟨hB, hl⟩, E, rfl⟩ := R
  have hP := hI.prm
  have hS : ∀ r, 1 ≤ r → r ≤ n → pcS ax tr ru ins ct pr r = pcS ax tr ru0 ins0 ct0 pr0 r := fun r r0 r1 => pcS_c hI.2.2.2 pcE_rf E r.toNat r0 (by omega) r1
  refine T50_states hI (fun st' => ?_)
  have e : pcSta (pcS ax tr ru ins ct pr) n root w = pcSta (pcS ax tr ru0 ins0 ct0 pr0) n root w := by
    unfold pcSta
    by_cases f : 1 ≤ root ∧ root ≤ n
    · rw [if_pos f, if_pos f, hS root f.1 f.2]
    · rw [if_neg f, if_neg f]
  rw [e]
  exact h _
theorem Q50_concludes {post : Int → (Int → Int) → Prop} (R : pqIR ph ax na tr nt ru ins ct pr n br t s S) (h : ∀ st', post (pqConcludes root x S) st') : wpX50_concludes post ax tr nt ru ins ct pr n st root x := by
  obtain ⟨ru0, ins0, ct0, pr0, tx, ⟨hI, hA, hT⟩, hph, ⟨hB, hl⟩, E, rfl⟩ := R
  have hP := hI.prm
  have hS : ∀ r, 1 ≤ r → r ≤ n → pcS ax tr ru ins ct pr r = pcS ax tr ru0 ins0 ct0 pr0 r := fun r r0 r1 => pcS_c hI.2.2.2 pcE_rf E r.toNat r0 (by omega) r1
  have ec : pcCon (pcS ax tr ru ins ct pr) tr n nt root x ↔ pcCon (pcS ax tr ru0 ins0 ct0 pr0) tr n nt root x := by
    unfold pcCon
    refine and_congr_right (fun f => ?_)
    rw [hS root f.1.1 f.1.2]
  refine T50_concludes hI (fun f st' => ?_) (fun f st' => ?_)
  · have e : pqConcludes root x ((ax, na), (tr, nt), (ru0, ins0, ct0, pr0, n), br, tx) = 1 := pif_t (ec.1 f)
    rw [e] at h
    exact h _
  · have e : pqConcludes root x ((ax, na), (tr, nt), (ru0, ins0, ct0, pr0, n), br, tx) = 0 := pif_f (fun z => f (ec.2 z))
    rw [e] at h
    exact h _
theorem Q50_sentence {post : Int → (Int → Int) → (Int → Int) → Int → Prop} (R : pqIR ph ax na tr nt ru ins ct pr n br t s S) (h : ∀ st' t' s', pqIR ph ax na tr nt ru ins ct pr n br t' s' ((pqSentence root S).2) → post (pqSentence root S).1 st' t' s') : wpX50_sentence post ph ax tr ru ins ct pr n st t s root := by
  obtain ⟨ru0, ins0, ct0, pr0, tx, ⟨hI, hA, hT⟩, hph, ⟨hB, hl⟩, E, rfl⟩ := R
  have hP := hI.prm
  have hS : ∀ r, 1 ≤ r → r ≤ n → pcS ax tr ru ins ct pr r = pcS ax tr ru0 ins0 ct0 pr0 r := fun r r0 r1 => pcS_c hI.2.2.2 pcE_rf E r.toNat r0 (by omega) r1
  refine T50_sentence hph hI hA hT (fun f => ?_) (fun f st' t' s' B' => ?_)
  · have e : pqSentence root ((ax, na), (tr, nt), (ru0, ins0, ct0, pr0, n), br, tx) = (-1, ((ax, na), (tr, nt), (ru0, ins0, ct0, pr0, n), br, tx)) := if_neg f
    rw [e] at h
    exact h _ _ _ ⟨_, _, _, _, _, ⟨hI, hA, hT⟩, hph, ⟨hB, hl⟩, E, rfl⟩
  · have es := pcSen_cg E hP hS f
    have e : pqSentence root ((ax, na), (tr, nt), (ru0, ins0, ct0, pr0, n), br, tx) = (((pcSen (pcS ax tr ru0 ins0 ct0 pr0) ru0 ct0 pr0 root).length : Int), ((ax, na), (tr, nt), (ru0, ins0, ct0, pr0, n), br, pcSen (pcS ax tr ru0 ins0 ct0 pr0) ru0 ct0 pr0 root)) := if_pos f
    rw [e, ← es] at h
    have tb := pcT_b (ru root)
    have cb := (hI.2.2.2 root f.1 f.2).2.1
    have B1 := B'.1
    rw [B1] at B' ⊢
    exact h _ _ _ ⟨_, _, _, _, _, ⟨hI, hA, hT⟩, hph, ⟨B', pcSen_l (by omega)⟩, E, rfl⟩
theorem Q50_at {post : Int → Prop} (R : pqIR ph ax na tr nt ru ins ct pr n br t s S) (h : post (pqAt i S)) : wpX50_at post t s i := by
  obtain ⟨ru0, ins0, ct0, pr0, tx, ⟨hI, hA, hT⟩, hph, ⟨hB, hl⟩, E, rfl⟩ := R
  have hP := hI.prm
  have hS : ∀ r, 1 ≤ r → r ≤ n → pcS ax tr ru ins ct pr r = pcS ax tr ru0 ins0 ct0 pr0 r := fun r r0 r1 => pcS_c hI.2.2.2 pcE_rf E r.toNat r0 (by omega) r1
  exact T50_at hB (by omega) h
theorem Q50_drop {post : Int → (Int → Int) → (Int → Int) → (Int → Int) → (Int → Int) → Int → (Int → Int) → Int → (Int → Int) → Prop} (R : pqIR ph ax na tr nt ru ins ct pr n br t s S) (h : ∀ ru' ins' ct' pr' n' mk' br' pl', pqIR ph ax na tr nt ru' ins' ct' pr' n' br' t s ((pqDrop root S).2) → post (pqDrop root S).1 ru' ins' ct' pr' n' mk' br' pl') : wpX50_drop post ru ins ct pr n mk br pl root := by
  obtain ⟨ru0, ins0, ct0, pr0, tx, ⟨hI, hA, hT⟩, hph, ⟨hB, hl⟩, E, rfl⟩ := R
  have hP := hI.prm
  have hS : ∀ r, 1 ≤ r → r ≤ n → pcS ax tr ru ins ct pr r = pcS ax tr ru0 ins0 ct0 pr0 r := fun r r0 r1 => pcS_c hI.2.2.2 pcE_rf E r.toNat r0 (by omega) r1
  refine T50_drop hI (fun f => ?_) (fun f ru' ins' ct' pr' mk' pl' D => ?_)
  · have e : pqDrop root ((ax, na), (tr, nt), (ru0, ins0, ct0, pr0, n), br, tx) = (-1, ((ax, na), (tr, nt), (ru0, ins0, ct0, pr0, n), br, tx)) := if_neg f
    rw [e] at h
    exact h _ _ _ _ _ _ _ _ ⟨_, _, _, _, _, ⟨hI, hA, hT⟩, hph, ⟨hB, hl⟩, E, rfl⟩
  · have hP0 : pcPr ct0 pr0 n := fun q q0 q1 => by
      obtain ⟨⟨a1, a2, a3⟩, a4⟩ := E q q0 q1
      obtain ⟨b1, b2⟩ := hP q q0 q1
      rw [a3]
      exact ⟨b1, fun i i0 i1 => by rw [a4 i i0 i1]; exact b2 i i0 i1⟩
    have D0 := pqDp_s (ru := ru0) (ins := ins0) hP0 f
    have e : pqDrop root ((ax, na), (tr, nt), (ru0, ins0, ct0, pr0, n), br, tx) = (pcC ct0 pr0 root root, ((ax, na), (tr, nt), ((pqDp ru0 ins0 ct0 pr0 root).1, (pqDp ru0 ins0 ct0 pr0 root).2.1, (pqDp ru0 ins0 ct0 pr0 root).2.2.1, (pqDp ru0 ins0 ct0 pr0 root).2.2.2, pcC ct0 pr0 root root), 0, tx)) := if_pos f
    rw [e, ← pcC_c E f] at h
    exact h _ _ _ _ _ _ _ _ ⟨_, _, _, _, _, ⟨pcDp_I hI f D, hA, hT⟩, hph, ⟨hB, hl⟩, pcDp_E hI f E D D0, rfl⟩
end
