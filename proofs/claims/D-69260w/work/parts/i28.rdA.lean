/-! RuleEngine (room RE): its constructor -/
theorem Lab.cgN {K L kd an : Nat → Nat} {A : Nat → Int → Nat} {g : Nat → Nat × Int} {N N' : Nat → Int} (H : Lab K L kd an A g N) (h : ∀ i j, 0 ≤ j → j < N' i → j < N i) : Lab K L kd an A g N' := fun i j h0 h1 => H i j h0 (h i j h0 h1)
theorem rxLab {kd an k1 a1 k2 a2 k3 a3 k4 a4 : Nat → Nat} {x q1 q2 q3 q4 q5 q6 q7 q8 q9 qa qb qc qd qe qf qg : Nat} (hx : kd x = 1) (hq1 : kd q1 = 0) (l1 : kLe (va_up kd q1 8) an k1 a1) (hq2 : k1 q2 = 0) (hq3 : (va_up k1 q2 7) q3 = 0) (hq4 : (va_up (va_up k1 q2 7) q3 9) q4 = 0) (hq5 : (va_up (va_up (va_up k1 q2 7) q3 9) q4 9) q5 = 0) (hq6 : (va_up (va_up (va_up (va_up k1 q2 7) q3 9) q4 9) q5 10) q6 = 0) (l2 : kLe (va_up (va_up (va_up (va_up (va_up k1 q2 7) q3 9) q4 9) q5 10) q6 8) (va_up (va_up (va_up a1 q3 16) q4 16) q5 16) k2 a2) (hq7 : k2 q7 = 0) (hq8 : (va_up k2 q7 9) q8 = 0) (hq9 : (va_up (va_up k2 q7 9) q8 9) q9 = 0) (l3 : kLe (va_up (va_up (va_up k2 q7 9) q8 9) q9 8) (va_up (va_up a2 q7 16384) q8 16384) k3 a3) (hqa : k3 qa = 0) (l4 : kLe (va_up k3 qa 8) a3 k4 a4) (hqb : k4 qb = 0) (hqc : (va_up k4 qb 9) qc = 0) (hqd : (va_up (va_up k4 qb 9) qc 2) qd = 0) (hqe : (va_up (va_up (va_up k4 qb 9) qc 2) qd 3) qe = 0) (hqf : (va_up (va_up (va_up (va_up k4 qb 9) qc 2) qd 3) qe 4) qf = 0) (hqg : (va_up (va_up (va_up (va_up (va_up k4 qb 9) qc 2) qd 3) qe 4) qf 9) qg = 0) : ∃ A G, Lab rxK rxL (va_up (va_up (va_up (va_up (va_up (va_up k4 qb 9) qc 2) qd 3) qe 4) qf 9) qg 9) (va_up (va_up (va_up a4 qb 6) qf 32) qg 16) A G rxN ∧ (A 0 0 = x ∧ A 1 0 = q1 ∧ A 10 0 = q2 ∧ A 2 0 = q3 ∧ A 2 1 = q4 ∧ A 3 0 = q5 ∧ A 1 1 = q6 ∧ A 4 0 = q7 ∧ A 4 1 = q8 ∧ A 1 2 = q9 ∧ A 1 3 = qa ∧ A 5 0 = qb ∧ A 7 0 = qc ∧ A 8 0 = qd ∧ A 9 0 = qe ∧ A 6 0 = qf ∧ A 2 2 = qg) ∧ kLe k1 a1 (va_up (va_up (va_up (va_up (va_up k1 q2 7) q3 9) q4 9) q5 10) q6 8) (va_up (va_up (va_up a1 q3 16) q4 16) q5 16) ∧ kLe k2 a2 (va_up (va_up (va_up k2 q7 9) q8 9) q9 8) (va_up (va_up a2 q7 16384) q8 16384) ∧ kLe k3 a3 (va_up k3 qa 8) a3 ∧ kLe k4 a4 (va_up (va_up (va_up (va_up (va_up (va_up k4 qb 9) qc 2) qd 3) qe 4) qf 9) qg 9) (va_up (va_up (va_up a4 qb 6) qf 32) qg 16) := by
  have H0 : Lab rxK rxL kd an (fun _ _ => x) (fun _ => (0, 0)) (fun i => if i = 0 then 1 else 0) := fun i j h0 h1 => by
    by_cases z : i = 0
    · subst z
      have h1' : j < 1 := h1
      have : j = 0 := by omega
      subst this
      exact ⟨rfl, ⟨hx, by decide⟩, fun w => absurd rfl w⟩
    · have h1' : j < (if i = 0 then 1 else 0) := h1
      rw [if_neg z] at h1'; omega
  have H1 : Lab rxK rxL (va_up kd q1 8) an _ _ _ := Lab.new H0 hq1 1 (by decide) (by decide) (fun _ _ => rfl) (fun w => absurd rfl w)
  have H1' : Lab rxK rxL k1 a1 _ _ _ := H1.kLe l1
  have H2 : Lab rxK rxL (va_up k1 q2 7) a1 _ _ _ := Lab.new H1' hq2 10 (by decide) (by decide) (fun _ _ => rfl) (fun w => absurd rfl w)
  have H3 : Lab rxK rxL (va_up (va_up k1 q2 7) q3 9) (va_up a1 q3 16) _ _ _ := Lab.new H2 hq3 2 (by decide) (by decide) (fun b hb => va_up_ne _ _ hb) (fun _ => va_up_self _ _ _)
  have H4 : Lab rxK rxL (va_up (va_up (va_up k1 q2 7) q3 9) q4 9) (va_up (va_up a1 q3 16) q4 16) _ _ _ := Lab.new H3 hq4 2 (by decide) (by decide) (fun b hb => va_up_ne _ _ hb) (fun _ => va_up_self _ _ _)
  have H5 : Lab rxK rxL (va_up (va_up (va_up (va_up k1 q2 7) q3 9) q4 9) q5 10) (va_up (va_up (va_up a1 q3 16) q4 16) q5 16) _ _ _ := Lab.new H4 hq5 3 (by decide) (by decide) (fun b hb => va_up_ne _ _ hb) (fun _ => va_up_self _ _ _)
  have H6 : Lab rxK rxL (va_up (va_up (va_up (va_up (va_up k1 q2 7) q3 9) q4 9) q5 10) q6 8) (va_up (va_up (va_up a1 q3 16) q4 16) q5 16) _ _ _ := Lab.new H5 hq6 1 (by decide) (by decide) (fun _ _ => rfl) (fun w => absurd rfl w)
  have H6' : Lab rxK rxL k2 a2 _ _ _ := H6.kLe l2
  have H7 : Lab rxK rxL (va_up k2 q7 9) (va_up a2 q7 16384) _ _ _ := Lab.new H6' hq7 4 (by decide) (by decide) (fun b hb => va_up_ne _ _ hb) (fun _ => va_up_self _ _ _)
  have H8 : Lab rxK rxL (va_up (va_up k2 q7 9) q8 9) (va_up (va_up a2 q7 16384) q8 16384) _ _ _ := Lab.new H7 hq8 4 (by decide) (by decide) (fun b hb => va_up_ne _ _ hb) (fun _ => va_up_self _ _ _)
  have H9 : Lab rxK rxL (va_up (va_up (va_up k2 q7 9) q8 9) q9 8) (va_up (va_up a2 q7 16384) q8 16384) _ _ _ := Lab.new H8 hq9 1 (by decide) (by decide) (fun _ _ => rfl) (fun w => absurd rfl w)
  have H9' : Lab rxK rxL k3 a3 _ _ _ := H9.kLe l3
  have H10 : Lab rxK rxL (va_up k3 qa 8) a3 _ _ _ := Lab.new H9' hqa 1 (by decide) (by decide) (fun _ _ => rfl) (fun w => absurd rfl w)
  have H10' : Lab rxK rxL k4 a4 _ _ _ := H10.kLe l4
  have H11 : Lab rxK rxL (va_up k4 qb 9) (va_up a4 qb 6) _ _ _ := Lab.new H10' hqb 5 (by decide) (by decide) (fun b hb => va_up_ne _ _ hb) (fun _ => va_up_self _ _ _)
  have H12 : Lab rxK rxL (va_up (va_up k4 qb 9) qc 2) (va_up a4 qb 6) _ _ _ := Lab.new H11 hqc 7 (by decide) (by decide) (fun _ _ => rfl) (fun w => absurd rfl w)
  have H13 : Lab rxK rxL (va_up (va_up (va_up k4 qb 9) qc 2) qd 3) (va_up a4 qb 6) _ _ _ := Lab.new H12 hqd 8 (by decide) (by decide) (fun _ _ => rfl) (fun w => absurd rfl w)
  have H14 : Lab rxK rxL (va_up (va_up (va_up (va_up k4 qb 9) qc 2) qd 3) qe 4) (va_up a4 qb 6) _ _ _ := Lab.new H13 hqe 9 (by decide) (by decide) (fun _ _ => rfl) (fun w => absurd rfl w)
  have H15 : Lab rxK rxL (va_up (va_up (va_up (va_up (va_up k4 qb 9) qc 2) qd 3) qe 4) qf 9) (va_up (va_up a4 qb 6) qf 32) _ _ _ := Lab.new H14 hqf 6 (by decide) (by decide) (fun b hb => va_up_ne _ _ hb) (fun _ => va_up_self _ _ _)
  have H16 : Lab rxK rxL (va_up (va_up (va_up (va_up (va_up (va_up k4 qb 9) qc 2) qd 3) qe 4) qf 9) qg 9) (va_up (va_up (va_up a4 qb 6) qf 32) qg 16) _ _ _ := Lab.new H15 hqg 2 (by decide) (by decide) (fun b hb => va_up_ne _ _ hb) (fun _ => va_up_self _ _ _)
  refine ⟨_, _, Lab.cgN H16 (fun i j h0 h1 => ?_), ⟨rfl, rfl, rfl, rfl, rfl, rfl, rfl, rfl, rfl, rfl, rfl, rfl, rfl, rfl, rfl, rfl, rfl⟩, (kLe_tr (kLe_tr (kLe_tr (kLe_tr (kLe_new hq2 (fun _ _ => rfl) : kLe k1 a1 (va_up k1 q2 7) a1) (kLe_new hq3 (fun b hb => va_up_ne _ _ hb) : kLe (va_up k1 q2 7) a1 (va_up (va_up k1 q2 7) q3 9) (va_up a1 q3 16))) (kLe_new hq4 (fun b hb => va_up_ne _ _ hb) : kLe (va_up (va_up k1 q2 7) q3 9) (va_up a1 q3 16) (va_up (va_up (va_up k1 q2 7) q3 9) q4 9) (va_up (va_up a1 q3 16) q4 16))) (kLe_new hq5 (fun b hb => va_up_ne _ _ hb) : kLe (va_up (va_up (va_up k1 q2 7) q3 9) q4 9) (va_up (va_up a1 q3 16) q4 16) (va_up (va_up (va_up (va_up k1 q2 7) q3 9) q4 9) q5 10) (va_up (va_up (va_up a1 q3 16) q4 16) q5 16))) (kLe_new hq6 (fun _ _ => rfl) : kLe (va_up (va_up (va_up (va_up k1 q2 7) q3 9) q4 9) q5 10) (va_up (va_up (va_up a1 q3 16) q4 16) q5 16) (va_up (va_up (va_up (va_up (va_up k1 q2 7) q3 9) q4 9) q5 10) q6 8) (va_up (va_up (va_up a1 q3 16) q4 16) q5 16))), (kLe_tr (kLe_tr (kLe_new hq7 (fun b hb => va_up_ne _ _ hb) : kLe k2 a2 (va_up k2 q7 9) (va_up a2 q7 16384)) (kLe_new hq8 (fun b hb => va_up_ne _ _ hb) : kLe (va_up k2 q7 9) (va_up a2 q7 16384) (va_up (va_up k2 q7 9) q8 9) (va_up (va_up a2 q7 16384) q8 16384))) (kLe_new hq9 (fun _ _ => rfl) : kLe (va_up (va_up k2 q7 9) q8 9) (va_up (va_up a2 q7 16384) q8 16384) (va_up (va_up (va_up k2 q7 9) q8 9) q9 8) (va_up (va_up a2 q7 16384) q8 16384))), (kLe_new hqa (fun _ _ => rfl) : kLe k3 a3 (va_up k3 qa 8) a3), (kLe_tr (kLe_tr (kLe_tr (kLe_tr (kLe_tr (kLe_new hqb (fun b hb => va_up_ne _ _ hb) : kLe k4 a4 (va_up k4 qb 9) (va_up a4 qb 6)) (kLe_new hqc (fun _ _ => rfl) : kLe (va_up k4 qb 9) (va_up a4 qb 6) (va_up (va_up k4 qb 9) qc 2) (va_up a4 qb 6))) (kLe_new hqd (fun _ _ => rfl) : kLe (va_up (va_up k4 qb 9) qc 2) (va_up a4 qb 6) (va_up (va_up (va_up k4 qb 9) qc 2) qd 3) (va_up a4 qb 6))) (kLe_new hqe (fun _ _ => rfl) : kLe (va_up (va_up (va_up k4 qb 9) qc 2) qd 3) (va_up a4 qb 6) (va_up (va_up (va_up (va_up k4 qb 9) qc 2) qd 3) qe 4) (va_up a4 qb 6))) (kLe_new hqf (fun b hb => va_up_ne _ _ hb) : kLe (va_up (va_up (va_up (va_up k4 qb 9) qc 2) qd 3) qe 4) (va_up a4 qb 6) (va_up (va_up (va_up (va_up (va_up k4 qb 9) qc 2) qd 3) qe 4) qf 9) (va_up (va_up a4 qb 6) qf 32))) (kLe_new hqg (fun b hb => va_up_ne _ _ hb) : kLe (va_up (va_up (va_up (va_up (va_up k4 qb 9) qc 2) qd 3) qe 4) qf 9) (va_up (va_up a4 qb 6) qf 32) (va_up (va_up (va_up (va_up (va_up (va_up k4 qb 9) qc 2) qd 3) qe 4) qf 9) qg 9) (va_up (va_up (va_up a4 qb 6) qf 32) qg 16)))⟩
  match i with
  | 0 => exact h1
  | 1 => exact h1
  | 2 => exact h1
  | 3 => exact h1
  | 4 => exact h1
  | 5 => exact h1
  | 6 => exact h1
  | 7 => exact h1
  | 8 => exact h1
  | 9 => exact h1
  | 10 => exact h1
  | i + 11 => exact absurd (show j < 0 from h1) (by omega)
section
variable {kd : Nat → Nat} {an : Nat → Nat} {ai : Nat → Int → Int} {al : Nat → Int → Int} {ar : Nat → Int → Option Nat} {mX35_said : Nat → Option Nat} {mX35_rules : Nat → Option Nat} {mX35_strata : Nat → Option Nat} {mX35_needs : Nat → Option Nat} {mX35_safe : Nat → Option Nat} {mX35_circle : Nat → Int} {mX35_known : Nat → Int} {mX35_holds : Nat → Option Nat} {mX35_rounds : Nat → Option Nat} {mX35_counts : Nat → Option Nat} {mX35_roundCount : Nat → Int} {mX35_last : Nat → Option Nat} {mX35_next : Nat → Option Nat} {mX35_values : Nat → Option Nat} {mX35_coming : Nat → Option Nat} {mX35_counting : Nat → Option Nat} {mX35_gathering : Nat → Option Nat} {mX35_together : Nat → Option Nat} {mX35_held : Nat → Option Nat} {mX35_work : Nat → Int} {mX35_large : Nat → Int} {mX83_head : Nat → Option Nat} {mX83_parts : Nat → Option Nat} {mX83_kind : Nat → Int} {mX83_variable : Nat → Int} {mX84_sort : Nat → Int} {mX84_name : Nat → Int} {mX84_x : Nat → Int} {mX84_y : Nat → Int} {mJ1_modCount : Nat → Int} {mJ2_elementData : Nat → Option Nat} {mJ2_size : Nat → Int} {mJ4_words : Nat → Option Nat} {mJ4_wordsInUse : Nat → Int} {mJ4_sizeIsSticky : Nat → Int} {sa : Nat → Nat} {A : Nat → Int → Nat} {hd ki fo ln pt sd st rn gv : Int → Int} {n r k v c s : Int} {e0 : Nat} {W : Int → Nat} {Lq : Int → Int} {Pq : Int → Int → Prop} {MC MS : Nat} {F H_ Li Ro : Int → Nat} {Pa : Int → Int → Nat} {G : Nat → Nat × Int} {L0 : Int → Int} {P0 : Int → Int → Prop} {ai0 : Nat → Int → Int} {ne la fr : Int}
theorem CRE_bsnew {post : (Nat → Nat) → (Nat → Nat) → (Nat → Int → Int) → (Nat → Option Nat) → (Nat → Int) → (Nat → Int) → Prop} {x : Nat} (hMC : 1 ≤ MC) (hMS : 1 ≤ MS) (hp : ∀ q, kd q = 0 → ∀ iu' sk', iu' = va_up mJ4_wordsInUse x 0 → kLe kd an (va_up kd q 11) (va_up an q 1) → post (va_up kd q 11) (va_up an q 1) (va_up al q (fun _ => 0)) (va_up mJ4_words x (some q)) iu' sk') : wpRE_J4_init_2 MC MS post kd an al mJ4_words mJ4_wordsInUse mJ4_sizeIsSticky x := by
  unfold wpRE_J4_init_2 wpRE_J4_initWords wpRE_J4_wordIndex
  intro iu1 e1 st1 e2
  refine ⟨1, 1, ⟨by omega, by omega⟩, by omega, ⟨by omega, by omega⟩, ?_⟩
  have fin : ∀ n : Int, n = 1 → (0 ≤ n ∧ n.toNat * componentBytes .long ≤ 536870912) ∧ (0 + 1 ≤ 1 ∧ 0 + n.toNat ≤ 1) := fun n en => by
    have cb : componentBytes .long = 8 := rfl
    rw [en, cb]
    decide
  first
    | refine ⟨fun _ => ⟨by omega, fun n en => ?_⟩, fun z => absurd (by decide) z⟩
    | refine ⟨by omega, fun n en => ?_⟩
  have en1 : n = 1 := en.trans (by decide)
  have f := fin n en1
  refine ⟨f.1, f.2, fun q hq an1 ea1 ks1 ek1 al1 el1 wd1 ew1 => ⟨by omega, by rw [ek1, en1]; decide, fun kl st2 e3 => ⟨by omega, by omega, ?_⟩⟩⟩
  have et : n.toNat = 1 := by rw [en1]; rfl
  rw [et] at ea1
  rw [ea1] at kl ⊢
  rw [el1, ew1]
  exact hp q hq _ _ e1 kl
theorem bsI_0 {kd an : Nat → Nat} {al : Nat → Int → Int} {wd : Nat → Option Nat} {iu : Nat → Int} {x w : Nat} (h1 : wd x = some w) (h2 : kd w = 11) (h3 : an w = 1) (h4 : al w = fun _ => 0) (h5 : iu x = 0) : bsI kd an al wd iu x w 1 (fun _ => False) := by
  refine ⟨⟨h1, h2, by rw [h3]; rfl⟩, by decide, ?_, fun q z => z.elim⟩
  rw [h4, h5]
  refine ⟨by decide, fun z => absurd z (by decide), fun _ _ _ => rfl, fun _ _ _ => (by decide : zL 0), fun q q0 q1 => ?_⟩
  show zb 0 _ = 1 ↔ False
  rw [zb_zero]
  exact ⟨fun z => absurd z (by decide), fun z => z.elim⟩
theorem CRE_init {post : (Nat → Nat) → (Nat → Nat) → (Nat → Int → Int) → (Nat → Int → Int) → (Nat → Option Nat) → (Nat → Option Nat) → (Nat → Option Nat) → (Nat → Option Nat) → (Nat → Option Nat) → (Nat → Option Nat) → (Nat → Option Nat) → (Nat → Option Nat) → (Nat → Option Nat) → (Nat → Option Nat) → (Nat → Option Nat) → (Nat → Option Nat) → (Nat → Option Nat) → (Nat → Option Nat) → (Nat → Option Nat) → (Nat → Option Nat) → (Nat → Int) → (Nat → Option Nat) → (Nat → Int) → (Nat → Option Nat) → (Nat → Int) → (Nat → Int) → Prop} {x : Nat} (hMC : 40 ≤ MC) (hMS : 40000 ≤ MS) (hx : kd x = 1) (hk : mX35_known x = 0) (hp : ∀ kd9 an9 ai9 al9 said9 ru9 st9 nd9 sf9 ho9 rd9 ct9 la9 ne9 va9 co9 cn9 ga9 tg9 he9 mo9 ed9 sz9 wd9 iu9 sk9, (∃ A G, A 0 0 = x ∧ rxRm kd9 an9 ai9 al9 ar said9 ru9 st9 nd9 sf9 mX35_circle mX35_known ho9 rd9 ct9 mX35_roundCount la9 ne9 va9 co9 cn9 ga9 tg9 he9 mX35_work mX35_large mX83_head mX83_parts mX83_kind mX83_variable mX84_sort mX84_name mX84_x mX84_y mo9 ed9 sz9 wd9 iu9 sk9 (sa 0) A G 1 0 (fun _ => 0) hd ki fo ln pt 0) → post kd9 an9 ai9 al9 said9 ru9 st9 nd9 sf9 ho9 rd9 ct9 la9 ne9 va9 co9 cn9 ga9 tg9 he9 mo9 ed9 sz9 wd9 iu9 sk9) : wpRE_X35_init MC MS post kd an ai al mX35_said mX35_rules mX35_strata mX35_needs mX35_safe mX35_holds mX35_rounds mX35_counts mX35_last mX35_next mX35_values mX35_coming mX35_counting mX35_gathering mX35_together mX35_held mJ1_modCount mJ2_elementData mJ2_size mJ4_words mJ4_wordsInUse mJ4_sizeIsSticky sa x := by
  unfold wpRE_X35_init
  refine ⟨by omega, fun q1 hq1 wd1 ewd1 iu1 eiu1 sk1 esk1 => ⟨1, 1, ⟨by omega, by omega⟩, CRE_bsnew (by omega) (by omega) (fun r1 hr1 iu2 sk2 eiu2 l1 _ sd9 esd => ⟨by omega, fun q2 hq2 mo1 emo1 ed1 eed1 sz9 esz => ⟨by omega, ?_⟩⟩)⟩⟩
  unfold wpRE_J2_init wpRE_J1_init wpRE_J0_init
  intro mo9 emo ed9 eed ru9 eru
  refine ⟨by omega, fun q3 hq3 ai1 eai1 st9 est => ⟨by omega, fun q4 hq4 ai2 eai2 nd9 end_ => ⟨by omega, fun q5 hq5 ai3 eai3 sf9 esf => ⟨by omega, fun q6 hq6 wd6 ewd6 iu6 eiu6 sk6 esk6 => ⟨1, 1, ⟨by omega, by omega⟩, CRE_bsnew (by omega) (by omega) (fun r6 hr6 iv6 sv6 eiv6 l2 _ ho9 eho => ⟨by omega, fun q7 hq7 ai4 eai4 rd9 erd => ⟨by omega, fun q8 hq8 ai5 eai5 ct9 ect => ⟨by omega, fun q9 hq9 wd9 ewd9 iu9 eiu9 sk9 esk9 => ⟨1, 1, ⟨by omega, by omega⟩, CRE_bsnew (by omega) (by omega) (fun r9 hr9 iv9 sv9 eiv9 l3 _ la9 ela => ⟨by omega, fun qa hqa wda ewda iua eiua ska eska => ⟨1, 1, ⟨by omega, by omega⟩, CRE_bsnew (by omega) (by omega) (fun ra hra iva sva eiva l4 _ ne9 ene => ⟨by omega, fun qb hqb ai6 eai6 va9 eva => ⟨by omega, fun qc hqc => ⟨by omega, ?_⟩⟩⟩)⟩⟩)⟩⟩⟩⟩)⟩⟩⟩⟩⟩
  unfold wpRE_X37_init wpRE_X36_init
  intro co9 eco
  refine ⟨by omega, fun qd hqd => ⟨by omega, ?_⟩⟩
  unfold wpRE_X38_init wpRE_X36_init
  intro cn9 ecn
  refine ⟨by omega, fun qe hqe => ⟨by omega, ?_⟩⟩
  unfold wpRE_X39_init wpRE_X36_init
  intro ga9 ega
  refine ⟨by omega, fun qf hqf ai7 eai7 tg9 etg => ⟨by omega, fun qg hqg ai8 eai8 he9 ehe => ⟨by omega, by omega, ?_⟩⟩⟩
  obtain ⟨A, G, H, ⟨f0, g1, g2, g3, g4, g5, g6, g7, g8, g9, ga, gb, gc, gd, ge, gf, gg⟩, c1, c2, c3, c4⟩ := rxLab hx hq1 l1 hq2 hq3 hq4 hq5 hq6 l2 hq7 hq8 hq9 l3 hqa l4 hqb hqc hqd hqe hqf hqg
  have n16 : q1 ≠ q6 := by rw [← g1, ← g6]; exact (H.ne (i := 1) (i' := 1) (j := 0) (j' := 1) ⟨by decide, by decide⟩ ⟨by decide, by decide⟩ (Or.inr (by decide)))
  have n19 : q1 ≠ q9 := by rw [← g1, ← g9]; exact (H.ne (i := 1) (i' := 1) (j := 0) (j' := 2) ⟨by decide, by decide⟩ ⟨by decide, by decide⟩ (Or.inr (by decide)))
  have n1a : q1 ≠ qa := by rw [← g1, ← ga]; exact (H.ne (i := 1) (i' := 1) (j := 0) (j' := 3) ⟨by decide, by decide⟩ ⟨by decide, by decide⟩ (Or.inr (by decide)))
  have n69 : q6 ≠ q9 := by rw [← g6, ← g9]; exact (H.ne (i := 1) (i' := 1) (j := 1) (j' := 2) ⟨by decide, by decide⟩ ⟨by decide, by decide⟩ (Or.inr (by decide)))
  have n6a : q6 ≠ qa := by rw [← g6, ← ga]; exact (H.ne (i := 1) (i' := 1) (j := 1) (j' := 3) ⟨by decide, by decide⟩ ⟨by decide, by decide⟩ (Or.inr (by decide)))
  have n9a : q9 ≠ qa := by rw [← g9, ← ga]; exact (H.ne (i := 1) (i' := 1) (j := 2) (j' := 3) ⟨by decide, by decide⟩ ⟨by decide, by decide⟩ (Or.inr (by decide)))
  have nek : ∀ {f : Nat → Nat} {a b : Nat}, f a = 11 → f b = 0 → a ≠ b := fun {f a b} e1 e2 w => by
    rw [w, e2] at e1
    exact absurd e1 (by decide)
  have u1 : va_up (va_up kd q1 8) r1 11 r1 = 11 := va_up_self _ _ _
  have t12 := c1 r1 (by rw [u1]; decide)
  have v12 := l2 r1 (by rw [t12.1, u1]; decide)
  have t13 := c2 r1 (by rw [v12.1, t12.1, u1]; decide)
  have v13 := l3 r1 (by rw [t13.1, v12.1, t12.1, u1]; decide)
  have t14 := c3 r1 (by rw [v13.1, t13.1, v12.1, t12.1, u1]; decide)
  have v14 := l4 r1 (by rw [t14.1, v13.1, t13.1, v12.1, t12.1, u1]; decide)
  have t1F := c4 r1 (by rw [v14.1, t14.1, v13.1, t13.1, v12.1, t12.1, u1]; decide)
  have k1F := t1F.1.trans (v14.1.trans (t14.1.trans (v13.1.trans (t13.1.trans (v12.1.trans (t12.1.trans u1))))))
  have a1F := t1F.2.trans (v14.2.trans (t14.2.trans (v13.2.trans (t13.2.trans (v12.2.trans (t12.2.trans (va_up_self _ _ _)))))))
  have m16 : r1 ≠ r6 := nek (t12.1.trans u1) hr6
  have m19 : r1 ≠ r9 := nek (t13.1.trans (v12.1.trans (t12.1.trans u1))) hr9
  have m1a : r1 ≠ ra := nek (t14.1.trans (v13.1.trans (t13.1.trans (v12.1.trans (t12.1.trans u1))))) hra
  obtain ⟨kk6, ek6⟩ : ∃ kk, kk = (11 : Nat) := ⟨_, rfl⟩
  have t23 := c2 r6 (by rw [va_up_self]; decide)
  have v23 := l3 r6 (by rw [t23.1, va_up_self]; decide)
  have t24 := c3 r6 (by rw [v23.1, t23.1, va_up_self]; decide)
  have v24 := l4 r6 (by rw [t24.1, v23.1, t23.1, va_up_self]; decide)
  have t2F := c4 r6 (by rw [v24.1, t24.1, v23.1, t23.1, va_up_self]; decide)
  have k2F := t2F.1.trans (v24.1.trans (t24.1.trans (v23.1.trans (t23.1.trans (va_up_self _ _ _)))))
  have a2F := t2F.2.trans (v24.2.trans (t24.2.trans (v23.2.trans (t23.2.trans (va_up_self _ _ _)))))
  have m69 : r6 ≠ r9 := nek (t23.1.trans (va_up_self _ _ _)) hr9
  have m6a : r6 ≠ ra := nek (t24.1.trans (v23.1.trans (t23.1.trans (va_up_self _ _ _)))) hra
  have t34 := c3 r9 (by rw [va_up_self]; decide)
  have v34 := l4 r9 (by rw [t34.1, va_up_self]; decide)
  have t3F := c4 r9 (by rw [v34.1, t34.1, va_up_self]; decide)
  have k3F := t3F.1.trans (v34.1.trans (t34.1.trans (va_up_self _ _ _)))
  have a3F := t3F.2.trans (v34.2.trans (t34.2.trans (va_up_self _ _ _)))
  have m9a : r9 ≠ ra := nek (t34.1.trans (va_up_self _ _ _)) hra
  have t4F := c4 ra (by rw [va_up_self]; decide)
  have k4F := t4F.1.trans (va_up_self _ _ _)
  have a4F := t4F.2.trans (va_up_self _ _ _)
  have e10 : reS0 (fun _ => 0) = fun _ => False := funext fun q => propext ⟨fun w => absurd rfl w.2, fun w => w.elim⟩
  refine hp _ _ _ _ _ _ _ _ _ _ _ _ _ _ _ _ _ _ _ _ _ _ _ _ _ _ ⟨A, G, f0, ⟨H, ⟨?_, ?_, ?_⟩, ⟨?_, ?_, ?_, ?_⟩, ⟨?_, ?_, ?_, ?_⟩, ?_, ?_, ?_⟩, ⟨sa 0, fun _ => 0, fun _ => 0, fun _ => 0, fun _ => 0, fun _ _ => 0, ⟨⟨?_, ?_, Int.le_refl _, Or.inr ⟨rfl, rfl⟩, fun i i0 i1 => by omega⟩, fun r r0 r1 => by omega, fun i j i0 i1 => by omega, fun i i0 i1 => by omega⟩, ?_, fun r r0 r1 => by omega, fun r r0 r1 => by omega⟩, 2, 3, fun j => if j = 0 then r1 else if j = 1 then r6 else if j = 2 then r9 else ra, fun _ => 1, fun _ _ => False, Or.inl ⟨rfl, rfl⟩, rfl, ⟨?_, ?_⟩, ⟨fun j j0 j1 => ?_, fun i j i0 i1 j0 j1 ne => ?_⟩, e10.symm, fun w => absurd (by rw [f0]; exact hk) w⟩
  · rw [f0, g1, esd, va_up_self]
  · rw [f0, g6, eho, va_up_self]
  · rw [f0, g2, eru, va_up_self]
  · rw [f0, g3, est, va_up_self]
  · rw [f0, g4, end_, va_up_self]
  · rw [f0, gg, ehe, va_up_self]
  · rw [f0, g5, esf, va_up_self]
  · rw [f0, g7, erd, va_up_self]
  · rw [f0, g8, ect, va_up_self]
  · rw [f0, gb, eva, va_up_self]
  · rw [f0, gf, etg, va_up_self]
  · rw [f0, gc, eco, va_up_self]
  · rw [f0, gd, ecn, va_up_self]
  · rw [f0, ge, ega, va_up_self]
  · rw [g2, eed, va_up_self]
  · rw [g2, esz, va_up_self]
  · rw [g2, emo, va_up_self]; decide
  · rw [f0, g9, ela, va_up_self]
  · rw [f0, ga, ene, va_up_self]
  · have hj : j = 0 ∨ j = 1 ∨ j = 2 ∨ j = 3 := by omega
    rcases hj with rfl | rfl | rfl | rfl
    · rw [g1]
      refine bsI_0 ?_ k1F a1F ?_ ?_
      · rw [va_up_ne _ _ n1a, ewda, va_up_ne _ _ n1a, va_up_ne _ _ n19, ewd9, va_up_ne _ _ n19, va_up_ne _ _ n16, ewd6, va_up_ne _ _ n16, va_up_self]; rfl
      · show va_up (va_up (va_up (va_up al r1 _) r6 _) r9 _) ra _ r1 = _
        rw [va_up_ne _ _ m1a, va_up_ne _ _ m19, va_up_ne _ _ m16, va_up_self]
      · rw [eiva, va_up_ne _ _ n1a, eiua, va_up_ne _ _ n1a, eiv9, va_up_ne _ _ n19, eiu9, va_up_ne _ _ n19, eiv6, va_up_ne _ _ n16, eiu6, va_up_ne _ _ n16, eiu2, va_up_self]
    · rw [g6]
      refine bsI_0 ?_ k2F a2F ?_ ?_
      · rw [va_up_ne _ _ n6a, ewda, va_up_ne _ _ n6a, va_up_ne _ _ n69, ewd9, va_up_ne _ _ n69, va_up_self]; rfl
      · show va_up (va_up (va_up (va_up al r1 _) r6 _) r9 _) ra _ r6 = _
        rw [va_up_ne _ _ m6a, va_up_ne _ _ m69, va_up_self]
      · rw [eiva, va_up_ne _ _ n6a, eiua, va_up_ne _ _ n6a, eiv9, va_up_ne _ _ n69, eiu9, va_up_ne _ _ n69, eiv6, va_up_self]
    · rw [g9]
      refine bsI_0 ?_ k3F a3F ?_ ?_
      · rw [va_up_ne _ _ n9a, ewda, va_up_ne _ _ n9a, va_up_self]; rfl
      · show va_up (va_up (va_up (va_up al r1 _) r6 _) r9 _) ra _ r9 = _
        rw [va_up_ne _ _ m9a, va_up_self]
      · rw [eiva, va_up_ne _ _ n9a, eiua, va_up_ne _ _ n9a, eiv9, va_up_self]
    · rw [ga]
      refine bsI_0 ?_ k4F a4F ?_ ?_
      · rw [va_up_self]; rfl
      · show va_up (va_up (va_up (va_up al r1 _) r6 _) r9 _) ra _ ra = _
        rw [va_up_self]
      · rw [eiva, va_up_self]
  · have hi : i = 0 ∨ i = 1 ∨ i = 2 ∨ i = 3 := by omega
    have hj : j = 0 ∨ j = 1 ∨ j = 2 ∨ j = 3 := by omega
    rcases hi with rfl | rfl | rfl | rfl <;> rcases hj with rfl | rfl | rfl | rfl
    · exact absurd rfl ne
    · exact m16
    · exact m19
    · exact m1a
    · exact m16.symm
    · exact absurd rfl ne
    · exact m69
    · exact m6a
    · exact m19.symm
    · exact m69.symm
    · exact absurd rfl ne
    · exact m9a
    · exact m1a.symm
    · exact m6a.symm
    · exact m9a.symm
    · exact absurd rfl ne
end
