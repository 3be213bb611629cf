/-! QlRewrite (room QR): whether forms have an answer; the answers -/
theorem qcFt_cg {g g' : Int → Int} {v t : Int} (h0 : 0 ≤ v) (h8 : v < 8) (h : ∀ w, 0 ≤ w → w < 6 → g w = g' w) : qcFt g v t ↔ qcFt g' v t := by
  unfold qcFt
  by_cases z : v < 6
  · rw [h v h0 z]
  · have : v = 6 ∨ v = 7 := by omega
    rcases this with e | e
    · exact ⟨fun _ => Or.inl e, fun _ => Or.inl e⟩
    · exact ⟨fun _ => Or.inr (Or.inl e), fun _ => Or.inr (Or.inl e)⟩
theorem qcUg_cg {g g' : Int → Int} {v t : Int} (h : ∀ w, 0 ≤ w → w < 6 → g w = g' w) : ∀ w, 0 ≤ w → w < 6 → qcUg g v t w = qcUg g' v t w := fun w w0 w6 => by
  by_cases z : w = v
  · rw [z] at w6 ⊢
    rw [qcUg_l w6, qcUg_l w6]
  · rw [qcUg_o z, qcUg_o z]; exact h w w0 w6
theorem qcFn_cg {Fa : Int → Int → Int → Prop} {cd : Int → Int} : ∀ (p : Nat) (k : Int) {g g' : Int → Int}, (∀ w, 0 ≤ w → w < 6 → g w = g' w) → (qcFn Fa cd p k g ↔ qcFn Fa cd p k g')
  | 0, _, _, _, _ => Iff.rfl
  | p + 1, k, g, g', h => by
    refine exists_congr fun a => exists_congr fun b => and_congr Iff.rfl (and_congr (qcFt_cg (by omega) (by omega) h) (and_congr (qcFt_cg (by omega) (by omega) (qcUg_cg h)) (qcFn_cg p (k + 1) (qcUg_cg (qcUg_cg h)))))
theorem qcFs_cg {Fa : Int → Int → Int → Prop} {c : Int} {g g' : Int → Int} (h : ∀ w, 0 ≤ w → w < 6 → g w = g' w) : qcFs Fa g c ↔ qcFs Fa g' c :=
  exists_congr fun a => exists_congr fun b => and_congr Iff.rfl (and_congr (qcFt_cg (by omega) (by omega) h) (and_congr (qcFt_cg (by omega) (by omega) h) Iff.rfl))
section
variable {kd : Nat → Nat} {an : Nat → Nat} {ai : Nat → Int → Int} {al : Nat → Int → Int} {ar : Nat → Int → Option Nat} {mX40_kinds : Nat → Option Nat} {mX40_lefts : Nat → Option Nat} {mX40_rights : Nat → Option Nat} {mX40_axioms : Nat → Int} {mX40_classFacts : Nat → Option Nat} {mX40_roleFacts : Nat → Option Nat} {mX40_facts : Nat → Int} {mX40_draft : Nat → Option Nat} {mX40_questions : Nat → Option Nat} {mX40_questionCount : Nat → Int} {mX40_forbidden : Nat → Option Nat} {mX40_given : Nat → Option Nat} {mX41_first : Nat → Int} {mX41_second : Nat → Int} {mX41_names : Nat → Option Nat} {mX41_from : Nat → Option Nat} {mX41_to : Nat → Option Nat} {mX41_n : Nat → Int} {mX41_codes : Nat → Option Nat} {mX41_least : Nat → Option Nat} {mX41_hasLeast : Nat → Int} {mX41_others : Nat → Option Nat} {mX41_otherCount : Nat → Int} {mX41_named : Nat → Option Nat} {mX62_answers : Nat → Int} {mX62_names : Nat → Option Nat} {mX62_from : Nat → Option Nat} {mX62_to : Nat → Option Nat} {mX62_n : Nat → Int} {mX62_forms : Nat → Option Nat} {mX62_count : Nat → Int} {mX62_large : Nat → Int} {mX62_known : Nat → Int} {mX85_first : Nat → Int} {mX85_second : Nat → Int} {mX85_codes : Nat → Option Nat} {A : Nat → Int → Nat} {G : Nat → Nat × Int} {nq nF na nf nQ : Int} {FF : Int → qFo} {qa qk kf lf rt cf rf sq sf ow : Int → Int} {ql : Int → List qA} {qS : Int → qSS} {j n k v t oc i a b o f y r c q z : Int} {l : List qA} {S : qSS} {MC MS : Nat} {F : qFo} {ai1 : Nat → Int → Int}
theorem CQR_fitsSome {post : Int → Prop} (H : qcR kd an ai al ar mX40_kinds mX40_lefts mX40_rights mX40_axioms mX40_classFacts mX40_roleFacts mX40_facts mX40_draft mX40_questions mX40_questionCount mX40_forbidden mX40_given mX41_first mX41_second mX41_names mX41_from mX41_to mX41_n mX41_codes mX41_least mX41_hasLeast mX41_others mX41_otherCount mX41_named mX62_answers mX62_names mX62_from mX62_to mX62_n mX62_forms mX62_count mX62_large mX62_known mX85_first mX85_second mX85_codes A G nq nF FF qa ql qS qk kf lf rt na cf rf nf nQ sq sf ow) (hO : qcO A ai ai1) (gc : qGc c) (h1 : qcFs (qcFa cf rf) (ai1 (A 8 0)) c → post 1) (h0 : ¬ qcFs (qcFa cf rf) (ai1 (A 8 0)) c → post 0) : wpQR_X40_fitsSome post kd an ai1 mX40_classFacts mX40_roleFacts mX40_given (A 0 0) c := by
  obtain ⟨eG, kG, aG, k00⟩ := H.gv
  have cs := qcGc_c gc
  unfold wpQR_X40_fitsSome
  intro x ex_ y ey
  rw [ex_, ey]
  refine wl2 (fun fu s a => wQR_X40_fitsSome_18 (fun (x4_51 : Int) => (x4_51 = 0 ∨ x4_51 = 1) ∧ ((post x4_51))) (A 0 0) c (c / 8 % 8) (c % 8) kd an ai1 mX40_classFacts mX40_roleFacts mX40_given fu s a) (fun s a => (0 ≤ a ∧ a ≤ 12) ∧ ((s = 0 ∧ ∀ a', 0 ≤ a' → a' < a → ¬ ∃ b, qcFa cf rf (c / 64) a' b ∧ qcFt (ai1 (A 8 0)) (c / 8 % 8) a' ∧ qcFt (ai1 (A 8 0)) (c % 8) b ∧ (¬ c / 8 % 8 = c % 8 ∨ c / 8 % 8 = 6 ∨ a' = b)) ∨ (s = 1 ∧ qcFs (qcFa cf rf) (ai1 (A 8 0)) c))) (fun _ a => (12 - a).toNat) ?_ 0 0 ⟨by omega, Or.inl ⟨rfl, fun a' b0 b1 => by omega⟩⟩
  rintro s a ⟨ha, hs⟩ fu ih
  rw [wQR_X40_fitsSome_18]
  have out1 : ¬ s = 0 → (s = 0 ∨ s = 1) ∧ post s := fun w => by
    rcases hs with hs | hs
    · exact absurd hs.1 w
    · exact ⟨Or.inr hs.1, by rw [hs.1]; exact h1 hs.2⟩
  refine ⟨fun z12 => ?_, fun z12 => ⟨fun s0 => ?_, fun s1 => out1 s1⟩⟩
  · rcases hs with hs | hs
    · refine ⟨Or.inl hs.1, ?_⟩
      rw [hs.1]
      refine h0 (fun ⟨a', b, h⟩ => hs.2 a' ?_ ?_ ⟨b, h⟩)
      · exact h.1.1.1
      · have := h.1.1.2; omega
    · exact out1 (by omega)
  · have hs0 : ∀ a', 0 ≤ a' → a' < a → ¬ ∃ b, qcFa cf rf (c / 64) a' b ∧ qcFt (ai1 (A 8 0)) (c / 8 % 8) a' ∧ qcFt (ai1 (A 8 0)) (c % 8) b ∧ (¬ c / 8 % 8 = c % 8 ∨ c / 8 % 8 = 6 ∨ a' = b) := by
      rcases hs with hs | hs
      · exact hs.2
      · omega
    have nxt : (¬ ∃ b, qcFa cf rf (c / 64) a b ∧ qcFt (ai1 (A 8 0)) (c / 8 % 8) a ∧ qcFt (ai1 (A 8 0)) (c % 8) b ∧ (¬ c / 8 % 8 = c % 8 ∨ c / 8 % 8 = 6 ∨ a = b)) → ∀ a2 : Int, a2 = a + 1 → wQR_X40_fitsSome_18 (fun (x4_51 : Int) => (x4_51 = 0 ∨ x4_51 = 1) ∧ ((post x4_51))) (A 0 0) c (c / 8 % 8) (c % 8) kd an ai1 mX40_classFacts mX40_roleFacts mX40_given fu 0 a2 := fun no a2 ea => by
      rw [ea]
      refine ih _ _ ⟨by omega, Or.inl ⟨rfl, fun a' b0 b1 => ?_⟩⟩ (by omega)
      by_cases w : a' = a
      · rw [w]; exact no
      · exact hs0 a' b0 (by omega)
    rw [s0]
    refine CQR_fitsAtB H (by omega) (fun fa => ?_) (fun nfa => ⟨by omega, nxt (fun ⟨b, h⟩ => nfa h.2.1)⟩)
    have nb : ∃ m : Int, (0 ≤ m ∧ m ≤ 12) ∧ (c % 8 = 7 → m = 1) ∧ (¬ c % 8 = 7 → m = 12) := by
      by_cases w : c % 8 = 7
      · exact ⟨1, by decide, fun _ => rfl, fun q => absurd w q⟩
      · exact ⟨12, by decide, fun q => absurd q w, fun _ => rfl⟩
    obtain ⟨m, hm, m1, m12⟩ := nb
    refine wl2 (fun fu2 s2 b => wQR_X40_fitsSome_46 (fun (x4_46 : Int) => zR (a + 1) ∧ (∀ x5_47 : Int, x5_47 = a + 1 → (wQR_X40_fitsSome_18 (fun (x4_51 : Int) => (x4_51 = 0 ∨ x4_51 = 1) ∧ ((post x4_51))) (A 0 0) c (c / 8 % 8) (c % 8) kd an ai1 mX40_classFacts mX40_roleFacts mX40_given fu x4_46 x5_47))) (A 0 0) c (c / 8 % 8) (c % 8) a kd an ai1 mX40_classFacts mX40_roleFacts mX40_given fu2 s2 b) (fun s2 b => (0 ≤ b ∧ b ≤ m) ∧ ((s2 = 0 ∧ ∀ b', 0 ≤ b' → b' < b → ¬ (qcFa cf rf (c / 64) a b' ∧ qcFt (ai1 (A 8 0)) (c / 8 % 8) a ∧ qcFt (ai1 (A 8 0)) (c % 8) b' ∧ (¬ c / 8 % 8 = c % 8 ∨ c / 8 % 8 = 6 ∨ a = b'))) ∨ (s2 = 1 ∧ qcFs (qcFa cf rf) (ai1 (A 8 0)) c))) (fun _ b => (m - b).toNat) ?_ 0 0 ⟨by omega, Or.inl ⟨rfl, fun b' b0 b1 => by omega⟩⟩
    rintro s2 b ⟨hb, hs2⟩ fu2 ih2
    have outB1 : ¬ s2 = 0 → zR (a + 1) ∧ ∀ a2 : Int, a2 = a + 1 → wQR_X40_fitsSome_18 (fun (x4_51 : Int) => (x4_51 = 0 ∨ x4_51 = 1) ∧ ((post x4_51))) (A 0 0) c (c / 8 % 8) (c % 8) kd an ai1 mX40_classFacts mX40_roleFacts mX40_given fu s2 a2 := fun w => ⟨by omega, fun a2 ea => by
      rcases hs2 with hs2 | hs2
      · exact absurd hs2.1 w
      · rw [ea]
        exact ih _ _ ⟨by omega, Or.inr hs2⟩ (by omega)⟩
    have outB : m ≤ b → zR (a + 1) ∧ ∀ a2 : Int, a2 = a + 1 → wQR_X40_fitsSome_18 (fun (x4_51 : Int) => (x4_51 = 0 ∨ x4_51 = 1) ∧ ((post x4_51))) (A 0 0) c (c / 8 % 8) (c % 8) kd an ai1 mX40_classFacts mX40_roleFacts mX40_given fu s2 a2 := fun mb => by
      by_cases w : s2 = 0
      · rcases hs2 with hs2 | hs2
        · rw [w]
          refine ⟨by omega, nxt (fun ⟨b', h⟩ => hs2.2 b' ?_ ?_ h)⟩
          · have f := h.1
            unfold qcFa at f
            omega
          · have f := h.1
            unfold qcFa at f
            rcases cs with w | w
            · have := m1 w.1; omega
            · have := m12 w.1; omega
        · omega
      · exact outB1 w
    have nxtB : s2 = 0 → ¬ (qcFa cf rf (c / 64) a b ∧ qcFt (ai1 (A 8 0)) (c / 8 % 8) a ∧ qcFt (ai1 (A 8 0)) (c % 8) b ∧ (¬ c / 8 % 8 = c % 8 ∨ c / 8 % 8 = 6 ∨ a = b)) → ¬ m ≤ b → ∀ b2 : Int, b2 = b + 1 → wQR_X40_fitsSome_46 (fun (x4_46 : Int) => zR (a + 1) ∧ (∀ x5_47 : Int, x5_47 = a + 1 → (wQR_X40_fitsSome_18 (fun (x4_51 : Int) => (x4_51 = 0 ∨ x4_51 = 1) ∧ ((post x4_51))) (A 0 0) c (c / 8 % 8) (c % 8) kd an ai1 mX40_classFacts mX40_roleFacts mX40_given fu x4_46 x5_47))) (A 0 0) c (c / 8 % 8) (c % 8) a kd an ai1 mX40_classFacts mX40_roleFacts mX40_given fu2 0 b2 := fun w no mb b2 eb => by
      rw [eb]
      rcases hs2 with hs2 | hs2
      · refine ih2 _ _ ⟨by omega, Or.inl ⟨rfl, fun b' b0 b1 => ?_⟩⟩ (by omega)
        by_cases w : b' = b
        · rw [w]; exact no
        · exact hs2.2 b' b0 (by omega)
      · omega
    have look : s2 = 0 → ¬ m ≤ b → qcFt (ai1 (A 8 0)) (c % 8) b → (¬ c / 8 % 8 = c % 8 ∨ c / 8 % 8 = 6 ∨ a = b) → wQR_X40_fitsSome_96 (wQR_X40_fitsSome_46 (fun (x4_46 : Int) => zR (a + 1) ∧ (∀ x5_47 : Int, x5_47 = a + 1 → (wQR_X40_fitsSome_18 (fun (x4_51 : Int) => (x4_51 = 0 ∨ x4_51 = 1) ∧ ((post x4_51))) (A 0 0) c (c / 8 % 8) (c % 8) kd an ai1 mX40_classFacts mX40_roleFacts mX40_given fu x4_46 x5_47))) (A 0 0) c (c / 8 % 8) (c % 8) a kd an ai1 mX40_classFacts mX40_roleFacts mX40_given fu2) (A 0 0) c (c % 8) a b kd an ai1 mX40_classFacts mX40_roleFacts := fun w mb fb hx => by
      have yes : qcFa cf rf (c / 64) a b → ∀ b2 : Int, b2 = b + 1 → wQR_X40_fitsSome_46 (fun (x4_46 : Int) => zR (a + 1) ∧ (∀ x5_47 : Int, x5_47 = a + 1 → (wQR_X40_fitsSome_18 (fun (x4_51 : Int) => (x4_51 = 0 ∨ x4_51 = 1) ∧ ((post x4_51))) (A 0 0) c (c / 8 % 8) (c % 8) kd an ai1 mX40_classFacts mX40_roleFacts mX40_given fu x4_46 x5_47))) (A 0 0) c (c / 8 % 8) (c % 8) a kd an ai1 mX40_classFacts mX40_roleFacts mX40_given fu2 1 b2 := fun fab b2 eb => by
        rw [eb]
        exact ih2 _ _ ⟨by omega, Or.inr ⟨rfl, a, b, fab, fa, fb, hx⟩⟩ (by omega)
      unfold wQR_X40_fitsSome_96 wQR_X40_fitsSome_128
      rcases cs with w7 | w7
      · have := m1 w7.1
        exact ⟨fun _ => ⟨fun _ => kOn_some ⟨k00, CQR_hasC H hO w7.2 (by omega) (by omega) (fun f => ⟨by omega, yes f⟩) (fun nf_ => ⟨by omega, nxtB w (fun h => nf_ h.1) mb⟩)⟩, fun q => absurd w7.1 q⟩, fun q => absurd w7.1 q⟩
      · have := m12 w7.1
        have e32 : 32 + (c / 64 - 32) = c / 64 := by omega
        refine ⟨fun q => absurd q w7.1, fun _ => ⟨fun q => absurd q w7.1, fun _ => ⟨by omega, kOn_some ⟨k00, CQR_hasR H hO (by decide) (by omega) (by omega) (by omega) (fun f => ⟨by omega, ?_⟩) (fun nf_ => ⟨by omega, ?_⟩)⟩⟩⟩⟩
        · rw [e32] at f; exact yes f
        · rw [e32] at nf_; exact nxtB w (fun h => nf_ h.1) mb
    have body : ∀ m', m' = m → wQR_X40_fitsSome_60 (wQR_X40_fitsSome_46 (fun (x4_46 : Int) => zR (a + 1) ∧ (∀ x5_47 : Int, x5_47 = a + 1 → (wQR_X40_fitsSome_18 (fun (x4_51 : Int) => (x4_51 = 0 ∨ x4_51 = 1) ∧ ((post x4_51))) (A 0 0) c (c / 8 % 8) (c % 8) kd an ai1 mX40_classFacts mX40_roleFacts mX40_given fu x4_46 x5_47))) (A 0 0) c (c / 8 % 8) (c % 8) a kd an ai1 mX40_classFacts mX40_roleFacts mX40_given fu2) (fun (x4_46 : Int) => zR (a + 1) ∧ (∀ x5_47 : Int, x5_47 = a + 1 → (wQR_X40_fitsSome_18 (fun (x4_51 : Int) => (x4_51 = 0 ∨ x4_51 = 1) ∧ ((post x4_51))) (A 0 0) c (c / 8 % 8) (c % 8) kd an ai1 mX40_classFacts mX40_roleFacts mX40_given fu x4_46 x5_47))) (A 0 0) c (c / 8 % 8) (c % 8) s2 a b b (m') kd an ai1 mX40_classFacts mX40_roleFacts mX40_given := fun m' em => by
      unfold wQR_X40_fitsSome_60
      rw [em]
      refine ⟨outB, fun mb => ⟨fun w => CQR_fitsAtB H (by omega) (fun fb => ⟨fun exy => ⟨fun e6 => look w mb fb (Or.inr (Or.inl e6)), fun n6 => ⟨fun eab => look w mb fb (Or.inr (Or.inr eab)), fun nab => ⟨by omega, nxtB w (fun h => ?_) mb⟩⟩⟩, fun nxy => look w mb fb (Or.inl nxy)⟩) (fun nfb => ⟨by omega, nxtB w (fun h => nfb h.2.2.1) mb⟩), outB1⟩⟩
      rcases h.2.2.2 with g | g | g
      · exact g exy
      · exact n6 g
      · exact nab g
    rw [wQR_X40_fitsSome_46]
    exact ⟨fun w => body 1 (m1 w).symm, fun w => body 12 (m12 w).symm⟩
theorem CQR_standsB {P0 P1 : Prop} (H : qcR kd an ai al ar mX40_kinds mX40_lefts mX40_rights mX40_axioms mX40_classFacts mX40_roleFacts mX40_facts mX40_draft mX40_questions mX40_questionCount mX40_forbidden mX40_given mX41_first mX41_second mX41_names mX41_from mX41_to mX41_n mX41_codes mX41_least mX41_hasLeast mX41_others mX41_otherCount mX41_named mX62_answers mX62_names mX62_from mX62_to mX62_n mX62_forms mX62_count mX62_large mX62_known mX85_first mX85_second mX85_codes A G nq nF FF qa ql qS qk kf lf rt na cf rf nf nQ sq sf ow) (hr : 0 ≤ r ∧ r < nF) (hO : qcO A ai ai1) (h1 : qSd (FF r) v → P1) (h0 : ¬ qSd (FF r) v → P0) : wpQR_X40_stands (fun q => (q = 0 → P0) ∧ (¬ q = 0 → P1)) kd an ai1 mX85_codes (some (A 12 r)) v := by
  obtain ⟨⟨HL, q0, f0⟩, Fl, D, HF, HQ, HX, HC, HS⟩ := H
  have kf_ : kd (A 12 r) = 4 := (HL 12 r hr.1 (show r < nF from hr.2)).2.1.1
  have kc_ : kd (A 13 r) = 5 := (HL 13 r hr.1 (show r < nF from hr.2)).2.1.1
  have ne13 : A 13 r ≠ A 8 0 := HL.ne ⟨hr.1, show r < nF from hr.2⟩ ⟨by decide, show (0 : Int) < 1 by decide⟩ (Or.inl (by decide))
  obtain ⟨⟨_, _, p3⟩, p4, p5, p6, _⟩ := HF r hr.1 hr.2
  have mem : ∀ c, c ∈ (FF r).2.2 ↔ ∃ k, (0 ≤ k ∧ k < (an (A 13 r) : Int)) ∧ c = ai (A 13 r) k := fun c => by
    rw [← p5, aF_mem]
    exact ⟨fun ⟨k, hk, e⟩ => ⟨k, by omega, e⟩, fun ⟨k, hk, e⟩ => ⟨k, by omega, e⟩⟩
  unfold wpQR_X40_stands
  have loop : ∀ s : Int, (s = 1 ∧ v < 0) ∨ (s = 0 ∧ ¬ v < 0) → ∃ fu : Nat, wQR_X40_stands_22 (fun (x2_29 : Int) => (x2_29 = 0 ∨ x2_29 = 1) ∧ (((x2_29 = 0 → P0) ∧ (¬ x2_29 = 0 → P1)))) v (some (A 13 r)) (an (A 13 r) : Int) kd an ai1 fu s 0 := fun s hs => by
    refine wl2 (fun fu s k => wQR_X40_stands_22 _ v (some (A 13 r)) (an (A 13 r) : Int) kd an ai1 fu s k) (fun s k => (0 ≤ k ∧ k ≤ (an (A 13 r) : Int)) ∧ (s = 0 ∨ s = 1) ∧ (¬ s = 0 ↔ v < 0 ∨ ∃ i, (0 ≤ i ∧ i < k) ∧ (ai (A 13 r) i / 8 % 8 = v ∨ ai (A 13 r) i % 8 = v))) (fun _ k => ((an (A 13 r) : Int) - k).toNat) ?_ s 0 ⟨by omega, by omega, ?_⟩
    · rintro s k ⟨hk, s01, hs⟩ fu ih
      rw [wQR_X40_stands_22]
      refine ⟨fun z => ⟨s01, fun s0 => h0 (fun w => ?_), fun s1 => h1 ?_⟩, fun z => kOn_some ⟨kc_, by omega, fun c ec => ?_⟩⟩
      · refine (hs.2 ?_) s0
        rcases w with w | ⟨c, hc, e⟩
        · exact Or.inl w
        · obtain ⟨i, hi, ei⟩ := (mem c).1 hc
          rw [ei] at e
          exact Or.inr ⟨i, by omega, e⟩
      · rcases hs.1 s1 with w | ⟨i, hi, e⟩
        · exact Or.inl w
        · exact Or.inr ⟨_, (mem _).2 ⟨i, by omega, rfl⟩, e⟩
      · rw [hO _ ne13] at ec
        have yes : (ai (A 13 r) k / 8 % 8 = v ∨ ai (A 13 r) k % 8 = v) → ∀ k2 : Int, k2 = k + 1 → wQR_X40_stands_22 _ v (some (A 13 r)) (an (A 13 r) : Int) kd an ai1 fu 1 k2 := fun e k2 ek => by
          rw [ek]
          exact ih _ _ ⟨by omega, Or.inr rfl, fun _ => Or.inr ⟨k, by omega, e⟩, fun _ => by decide⟩ (by omega)
        rw [ec]
        refine ⟨fun s0 => ⟨fun e => ⟨by omega, yes (Or.inl e)⟩, fun ne => ⟨fun e => ⟨by omega, yes (Or.inr e)⟩, fun ne2 => ⟨by omega, fun k2 ek => ?_⟩⟩⟩, fun s1 => ⟨by omega, fun k2 ek => ?_⟩⟩
        · rw [ek]
          refine ih _ _ ⟨by omega, Or.inl rfl, fun w => absurd rfl w, fun w => ?_⟩ (by omega)
          rcases w with w | ⟨i, hi, e⟩
          · exact absurd s0 (hs.2 (Or.inl w))
          · by_cases y : i = k
            · rw [y] at e
              exact absurd e (fun q => q.elim ne ne2)
            · exact absurd s0 (hs.2 (Or.inr ⟨i, by omega, e⟩))
        · rw [ek]
          exact ih _ _ ⟨by omega, Or.inr rfl, fun _ => (hs.1 s1).imp id (fun ⟨i, hi, e⟩ => ⟨i, by omega, e⟩), fun _ => by decide⟩ (by omega)
    · rcases hs with hs | hs
      · exact ⟨fun _ => Or.inl hs.2, fun _ => by omega⟩
      · exact ⟨fun w => absurd hs.1 w, fun w => w.elim (fun w => absurd w hs.2) (fun ⟨i, hi, _⟩ => by omega)⟩
  refine ⟨fun z => kOn_some ⟨kf_, fun cr er => ?_⟩, fun z => kOn_some ⟨kf_, fun cr er => ?_⟩⟩
  · rw [p3] at er
    rw [er]
    exact kOn_some ⟨kc_, by omega, fun m em => by rw [em]; exact loop 0 (Or.inr ⟨rfl, by omega⟩)⟩
  · rw [p3] at er
    rw [er]
    exact kOn_some ⟨kc_, by omega, fun m em => by rw [em]; exact loop 1 (Or.inl ⟨rfl, by omega⟩)⟩
theorem CQR_hasAnswer {post : Int → (Nat → Int → Int) → Prop} (H : qcR kd an ai al ar mX40_kinds mX40_lefts mX40_rights mX40_axioms mX40_classFacts mX40_roleFacts mX40_facts mX40_draft mX40_questions mX40_questionCount mX40_forbidden mX40_given mX41_first mX41_second mX41_names mX41_from mX41_to mX41_n mX41_codes mX41_least mX41_hasLeast mX41_others mX41_otherCount mX41_named mX62_answers mX62_names mX62_from mX62_to mX62_n mX62_forms mX62_count mX62_large mX62_known mX85_first mX85_second mX85_codes A G nq nF FF qa ql qS qk kf lf rt na cf rf nf nQ sq sf ow) (hr : 0 ≤ r ∧ r < nF) (hO : qcO A ai ai1) (hq : qcAq q (FF r)) (hz : qcIa q z) (hp1 : qAns (qcFa cf rf) (FF r) z → ∀ ai2, qcO A ai ai2 → post 1 ai2) (hp0 : ¬ qAns (qcFa cf rf) (FF r) z → ∀ ai2, qcO A ai ai2 → post 0 ai2) : wpQR_X40_hasAnswer post kd an ai1 mX40_classFacts mX40_roleFacts mX40_given mX85_first mX85_second mX85_codes (A 0 0) (some (A 12 r)) z := by
  have H0 := H
  obtain ⟨eG, kG, aG, k00⟩ := H.gv
  obtain ⟨⟨HL, q0, f0⟩, Fl, D, HF, HQ, HX, HC, HS⟩ := H
  have kf_ : kd (A 12 r) = 4 := (HL 12 r hr.1 (show r < nF from hr.2)).2.1.1
  have kc_ : kd (A 13 r) = 5 := (HL 13 r hr.1 (show r < nF from hr.2)).2.1.1
  have ne13 : A 13 r ≠ A 8 0 := HL.ne ⟨hr.1, show r < nF from hr.2⟩ ⟨by decide, show (0 : Int) < 1 by decide⟩ (Or.inl (by decide))
  obtain ⟨⟨p1, p2, p3⟩, p4, p5, p6, h6⟩ := HF r hr.1 hr.2
  have len := (HF r hr.1 hr.2).at.1
  have hc : ∀ k, 0 ≤ k → k < ((FF r).2.2.length : Int) → ai (A 13 r) k = (FF r).2.2.getD k.toNat 0 := fun k k0 k1 => by
    rw [← p5, aF_get _ _ _ (by omega), show (0 : Int) + (k.toNat : Int) = k by omega]
  have gk : ∀ k, 0 ≤ k → k < (an (A 13 r) : Int) → qGc (ai (A 13 r) k) := fun k k0 k1 => p6 _ (by
    rw [← p5]; exact (aF_mem _ _).2 ⟨k, by omega, rfl⟩)
  have AN := qcAns (cf := cf) (rf := rf) hq h6 hz hc
  -- the rest, when all that is given stands
  have tail : ∀ ai3, qcO A ai ai3 → (∀ v, 0 ≤ v → v < 6 → ai3 (A 8 0) v = qcG0 (FF r) z v) → (0 ≤ (FF r).2.1 → (FF r).2.1 = (FF r).1 → z / 16 = z % 16) → ∃ fu : Nat, wQR_X40_hasAnswer_88 (fun (x3_28 : Int) => wQR_X40_hasAnswer_120 post (A 0 0) (some (A 12 r)) x3_28 kd an ai3 mX40_classFacts mX40_roleFacts mX40_given mX85_first mX85_second mX85_codes) (A 0 0) (some (A 12 r)) kd an ai3 mX40_classFacts mX40_roleFacts mX40_given mX85_codes fu 1 0 := fun ai3 O3 hg hC => by
    refine wl2 (fun fu s k => wQR_X40_hasAnswer_88 (fun (x3_28 : Int) => wQR_X40_hasAnswer_120 post (A 0 0) (some (A 12 r)) x3_28 kd an ai3 mX40_classFacts mX40_roleFacts mX40_given mX85_first mX85_second mX85_codes) (A 0 0) (some (A 12 r)) kd an ai3 mX40_classFacts mX40_roleFacts mX40_given mX85_codes fu s k) (fun s k => (0 ≤ k ∧ k ≤ (an (A 13 r) : Int)) ∧ ((s = 1 ∧ ∀ i, 0 ≤ i → i < k → qcFs (qcFa cf rf) (ai3 (A 8 0)) (ai (A 13 r) i)) ∨ (s = 0 ∧ ∃ i, (0 ≤ i ∧ i < (an (A 13 r) : Int)) ∧ ¬ qcFs (qcFa cf rf) (ai3 (A 8 0)) (ai (A 13 r) i)))) (fun _ k => ((an (A 13 r) : Int) - k).toNat) ?_ 1 0 ⟨by omega, Or.inl ⟨rfl, fun i b0 b1 => by omega⟩⟩
    rintro s k ⟨hk, hs⟩ fu ih
    have cgn := qcFn_cg (Fa := qcFa cf rf) (cd := ai (A 13 r)) (FF r).2.2.length 0 hg
    have done : (s = 0 ∨ k = (an (A 13 r) : Int)) → wQR_X40_hasAnswer_120 post (A 0 0) (some (A 12 r)) s kd an ai3 mX40_classFacts mX40_roleFacts mX40_given mX85_first mX85_second mX85_codes := fun hd => by
      unfold wQR_X40_hasAnswer_120
      refine ⟨fun s0 => ?_, fun s1 => kOn_some ⟨kf_, CQR_standsB H0 hr O3 (fun t1 => CQR_standsB H0 hr O3 (fun t2 => ?_) (fun t2 => hp0 (fun w => t2 ?_) ai3 O3)) (fun t1 => hp0 (fun w => t1 ?_) ai3 O3)⟩⟩
      · refine hp0 (fun w => ?_) ai3 O3
        obtain ⟨_, _, w3⟩ := AN.1 w
        obtain ⟨E, e1, e2⟩ := qcFn_s (fun c u v f => by unfold qcFa at f; omega) _ _ _ w3
        rcases hs with hs | ⟨_, i, hi, ni⟩
        · omega
        · refine ni (qcFs_of (E := E) (fun v v0 v6 hv => ?_) (e2 i hi.1 (by omega)) ?_)
          · rw [hg v v0 v6] at hv ⊢
            exact e1 v v6 hv
          · have g := gk i hi.1 hi.2
            unfold qGc qGa qDe at g
            dsimp only at g
            omega
      · obtain ⟨e, he⟩ : ∃ e : Nat, 20 = (FF r).2.2.length + e + 1 := ⟨19 - (FF r).2.2.length, by omega⟩
        rw [he]
        exact CQR_finds H0 hr (FF r).2.2.length 0 ai3 _ (by omega) (by omega) O3 (fun h => ⟨fun w => absurd w (by decide), fun _ => hp1 (AN.2 ⟨hC, ⟨by rw [p1] at t1; exact t1, by rw [p2] at t2; exact t2⟩, cgn.1 h⟩) ai3 O3⟩) (fun h => ⟨fun _ => hp0 (fun w => h (cgn.2 (AN.1 w).2.2)) ai3 O3, fun w => absurd rfl w⟩)
      · rw [p2]; exact (AN.1 w).2.1.2
      · rw [p1]; exact (AN.1 w).2.1.1
    rw [wQR_X40_hasAnswer_88]
    refine kOn_some ⟨kf_, kOn_of p3 ⟨kc_, by omega, fun w => done (Or.inr (by omega)), fun w => ⟨fun s0 => done (Or.inl s0), fun s1 => ⟨by omega, ?_⟩⟩⟩⟩
    rw [O3 _ ne13]
    refine CQR_fitsSome H0 O3 (gk k hk.1 (by omega)) (fun f => ⟨by omega, fun k2 ek => ?_⟩) (fun f => ⟨by omega, fun k2 ek => ?_⟩)
    · rw [ek]
      refine ih _ _ ⟨by omega, hs.imp (fun h => ⟨rfl, fun i i0 i1 => ?_⟩) (fun h => absurd h.1 s1)⟩ (by omega)
      by_cases y : i = k
      · rw [y]; exact f
      · exact h.2 i i0 (by omega)
    · rw [ek]
      exact ih _ _ ⟨by omega, Or.inr ⟨rfl, k, by omega, f⟩⟩ (by omega)
  have sec : ∀ ai2, qcO A ai ai2 → (∀ v, 0 ≤ v → v < 6 → ai2 (A 8 0) v = if 0 ≤ (FF r).1 ∧ v = (FF r).1 then z / 16 else -1) → wQR_X40_hasAnswer_40 post (A 0 0) (some (A 12 r)) z kd an ai2 mX40_classFacts mX40_roleFacts mX40_given mX85_first mX85_second mX85_codes := fun ai2 O2 hg => by
    have set2 : ¬ (FF r).2.1 < 0 → ∀ (w : Int) ai3, w = z % 16 → ai3 = va_up ai2 (A 8 0) (updI (ai2 (A 8 0)) (FF r).2.1 w) → qcO A ai ai3 ∧ ∀ v, 0 ≤ v → v < 6 → ai3 (A 8 0) v = qcG0 (FF r) z v := fun h w ai3 ew e3 => by
      refine ⟨fun b hb => by rw [e3, va_up_ne _ _ hb]; exact O2 b hb, fun v v0 v6 => ?_⟩
      rw [e3, va_up_self, updI_e]
      unfold qcG0
      by_cases y : v = (FF r).2.1
      · rw [if_pos y, if_pos ⟨by omega, y⟩, ew]
      · rw [if_neg y, if_neg (fun q => y q.2)]; exact hg v v0 v6
    unfold wQR_X40_hasAnswer_40
    refine kOn_some ⟨kf_, ?_⟩
    rw [p1, p2]
    refine ⟨fun w => tail ai2 O2 (fun v v0 v6 => ?_) (fun a1 => by omega), fun w => ⟨fun e => ⟨fun e2 u eu => kOn_of eG ⟨kG, by rw [aG]; omega, fun ai3 e3 => ?_⟩, fun ne2 => hp0 (fun an_ => ne2 ((AN.1 an_).1 (by omega) e)) ai2 O2⟩, fun ne u eu => kOn_of eG ⟨kG, by rw [aG]; omega, fun ai3 e3 => ?_⟩⟩⟩
    · unfold qcG0
      rw [if_neg (show ¬ (0 ≤ (FF r).2.1 ∧ v = (FF r).2.1) by omega)]; exact hg v v0 v6
    · obtain ⟨O3, g3⟩ := set2 w u ai3 eu e3
      exact tail ai3 O3 g3 (fun _ _ => e2)
    · obtain ⟨O3, g3⟩ := set2 w u ai3 eu e3
      exact tail ai3 O3 g3 (fun _ q => absurd q ne)
  unfold wpQR_X40_hasAnswer
  refine wl2 (fun fu v ai' => wQR_X40_hasAnswer_2 _ (A 0 0) kd an mX40_given fu v ai') (fun v ai' => (0 ≤ v ∧ v ≤ 6) ∧ qcO A ai ai' ∧ ∀ i, 0 ≤ i → i < v → ai' (A 8 0) i = -1) (fun v _ => (6 - v).toNat) ?_ 0 ai1 ⟨by omega, hO, fun i a b => by omega⟩
  rintro v ai2 ⟨hv, O2, hm⟩ fu ih
  rw [wQR_X40_hasAnswer_2]
  refine ⟨fun w => kOn_some ⟨kf_, fun n1 => sec ai2 O2 (fun t t0 t6 => ?_), fun n1 u eu => kOn_of eG ⟨kG, by rw [aG, p1]; rw [p1] at n1; omega, fun ai3 e3 => sec ai3 (fun b hb => by rw [e3, va_up_ne _ _ hb]; exact O2 b hb) (fun t t0 t6 => ?_)⟩⟩, fun w => kOn_of eG ⟨kG, by rw [aG]; omega, fun ai3 e3 => ⟨by omega, fun v' ev => ?_⟩⟩⟩
  · rw [p1] at n1
    rw [if_neg (by omega)]; exact hm t t0 (by omega)
  · rw [p1] at n1 e3
    rw [e3, va_up_self, updI_e]
    by_cases y : t = (FF r).1
    · rw [if_pos y, if_pos ⟨by omega, y⟩, eu]
    · rw [if_neg y, if_neg (fun q => y q.2)]; exact hm t t0 (by omega)
  · rw [ev]
    refine ih _ _ ⟨by omega, fun b hb => by rw [e3, va_up_ne _ _ hb]; exact O2 b hb, fun i i0 i1 => ?_⟩ (by omega)
    rw [e3, va_up_self, updI_e]
    by_cases y : i = v
    · rw [if_pos y]
    · rw [if_neg y]; exact hm i i0 (by omega)
theorem CQR_firstWith {post : Int → (Nat → Int → Int) → Prop} (H : qcR kd an ai al ar mX40_kinds mX40_lefts mX40_rights mX40_axioms mX40_classFacts mX40_roleFacts mX40_facts mX40_draft mX40_questions mX40_questionCount mX40_forbidden mX40_given mX41_first mX41_second mX41_names mX41_from mX41_to mX41_n mX41_codes mX41_least mX41_hasLeast mX41_others mX41_otherCount mX41_named mX62_answers mX62_names mX62_from mX62_to mX62_n mX62_forms mX62_count mX62_large mX62_known mX85_first mX85_second mX85_codes A G nq nF FF qa ql qS qk kf lf rt na cf rf nf nQ sq sf ow) (hj : 0 ≤ j ∧ j < nq) (hO : qcO A ai ai1) (hq : ∀ F ∈ (qS j).1, qcAq q F) (hz : qcIa q z) (hp : ∀ ai2, qcO A ai ai2 → post (qWhy (qcFa cf rf) (qS j) z) ai2) : wpQR_X40_firstWith post kd an ai1 ar mX40_classFacts mX40_roleFacts mX40_given mX62_forms mX62_count mX85_first mX85_second mX85_codes (A 0 0) (some (A 9 j)) z := by
  have H0 := H
  obtain ⟨⟨HL, q0, f0⟩, Fl, D, HF, HQ, HX, HC, HS⟩ := H
  have k9 : kd (A 9 j) = 3 := (HL 9 j hj.1 (show j < nq from hj.2)).2.1.1
  have k11 : kd (A 11 j) = 8 := (HL 11 j hj.1 (show j < nq from hj.2)).2.1.1
  have a11 : an (A 11 j) = 90 := (HL 11 j hj.1 (show j < nq from hj.2)).2.2 (by decide)
  have eFm : mX62_forms (A 9 j) = some (A 11 j) := (HQ j hj.1 hj.2).1.2.1.2.2.2
  obtain ⟨s1, s2, s3, s4, s5⟩ := (HQ j hj.1 hj.2).2.1
  unfold wpQR_X40_firstWith
  unfold qWhy at hp
  refine wl2 (fun fu i ai' => wQR_X40_firstWith_2 _ (A 0 0) (some (A 9 j)) z kd an ar mX40_classFacts mX40_roleFacts mX40_given mX62_forms mX62_count mX85_first mX85_second mX85_codes fu i ai') (fun i ai' => (0 ≤ i ∧ i ≤ ((qS j).1.length : Int)) ∧ qcO A ai ai' ∧ ∀ t, 0 ≤ t → t < i → ¬ qAns (qcFa cf rf) ((qS j).1.getD t.toNat (0, 0, [])) z) (fun i _ => (((qS j).1.length : Int) - i).toNat) ?_ 0 ai1 ⟨by omega, hO, fun t a b => by omega⟩
  rintro i ai2 ⟨hi, O2, no⟩ fu ih
  rw [wQR_X40_firstWith_2]
  refine kOn_some ⟨k9, ?_⟩
  rw [s1]
  refine ⟨fun w => kOn_some ⟨k9, fun w2 => ?_, fun w2 => ?_⟩, fun w => kOn_of eFm ⟨k11, by rw [a11]; omega, fun rr er => ?_⟩⟩
  · have e : fstI (fun i => qAns (qcFa cf rf) ((qS j).1.getD i.toNat (0, 0, [])) z) (qS j).1.length = ((qS j).1.length : Int) := fstI_u (by omega) (Int.le_refl _) (fun w => by omega) (fun t t0 t1 => no t t0 (by omega))
    rw [e, if_neg (by omega)] at hp
    exact hp ai2 O2
  · rw [s1] at w2; omega
  · obtain ⟨r, hr, et, ft⟩ := s5 i hi.1 (by omega)
    rw [et] at er
    rw [er]
    have mem : FF r ∈ (qS j).1 := by rw [ft]; exact gD_mem (by omega)
    refine CQR_hasAnswer H0 hr O2 (hq _ mem) hz (fun h ai3 O3 => ⟨fun w => absurd w (by decide), fun _ => kOn_some ⟨k9, fun w2 => ?_, fun _ => ?_⟩⟩) (fun h ai3 O3 => ⟨fun _ => ⟨by omega, fun i' ei => ?_⟩, fun w => absurd rfl w⟩)
    · rw [s1] at w2; omega
    · rw [ft] at h
      have e : fstI (fun i => qAns (qcFa cf rf) ((qS j).1.getD i.toNat (0, 0, [])) z) (qS j).1.length = i := fstI_u hi.1 hi.2 (fun _ => h) no
      rw [e, if_pos (by omega)] at hp
      exact hp ai3 O3
    · rw [ft] at h
      rw [ei]
      refine ih _ _ ⟨by omega, O3, fun t t0 t1 => ?_⟩ (by omega)
      by_cases y : t = i
      · rw [y]; exact h
      · exact no t t0 (by omega)
theorem CQR_isAnswerB {P0 P1 : Prop} (H : qcR kd an ai al ar mX40_kinds mX40_lefts mX40_rights mX40_axioms mX40_classFacts mX40_roleFacts mX40_facts mX40_draft mX40_questions mX40_questionCount mX40_forbidden mX40_given mX41_first mX41_second mX41_names mX41_from mX41_to mX41_n mX41_codes mX41_least mX41_hasLeast mX41_others mX41_otherCount mX41_named mX62_answers mX62_names mX62_from mX62_to mX62_n mX62_forms mX62_count mX62_large mX62_known mX85_first mX85_second mX85_codes A G nq nF FF qa ql qS qk kf lf rt na cf rf nf nQ sq sf ow) (hj : 0 ≤ j ∧ j < nq) (h1 : qcIa (qa j) z → P1) (h0 : ¬ qcIa (qa j) z → P0) : wpQR_X40_isAnswer (fun q => (q = 0 → P0) ∧ (¬ q = 0 → P1)) kd mX62_answers (some (A 9 j)) z := by
  obtain ⟨⟨HL, q0, f0⟩, Fl, D, HF, HQ, HX, HC, HS⟩ := H
  have k9 : kd (A 9 j) = 3 := (HL 9 j hj.1 (show j < nq from hj.2)).2.1.1
  have ea := (HQ j hj.1 hj.2).1.1.1
  have no : ¬ qcIa (qa j) z → ((0 : Int) = 0 → P0) ∧ (¬ (0 : Int) = 0 → P1) := fun h => ⟨fun _ => h0 h, fun w => absurd rfl w⟩
  have yes : qcIa (qa j) z → ((1 : Int) = 0 → P0) ∧ (¬ (1 : Int) = 0 → P1) := fun h => ⟨fun w => absurd w (by decide), fun _ => h1 h⟩
  unfold wpQR_X40_isAnswer wQR_X40_isAnswer_20
  unfold qcIa at no yes
  refine ⟨fun w => no (fun h => by omega), fun w => kOn_some ⟨k9, ?_⟩⟩
  rw [ea]
  refine ⟨fun a0 => ⟨fun b0 => no (fun h => ?_), fun b0 => kOn_some ⟨k9, fun c0 => ⟨fun d0 => no (fun h => ?_), fun d0 => yes ?_⟩, fun c0 => ⟨fun d0 => no (fun h => ?_), fun d0 => yes ?_⟩⟩⟩, fun a0 => ⟨fun b0 => no (fun h => ?_), fun b0 => kOn_some ⟨k9, fun c0 => ⟨fun d0 => no (fun h => ?_), fun d0 => yes ?_⟩, fun c0 => ⟨fun d0 => no (fun h => ?_), fun d0 => yes ?_⟩⟩⟩⟩
  · rw [if_neg (show ¬ 0 < qa j by omega)] at h; omega
  · rw [if_neg (show ¬ 1 < qa j by omega)] at h; omega
  · rw [if_neg (show ¬ 0 < qa j by omega), if_neg (show ¬ 1 < qa j by omega)]; omega
  · rw [if_pos (show 1 < qa j by omega)] at h; omega
  · rw [if_neg (show ¬ 0 < qa j by omega), if_pos (show 1 < qa j by omega)]; omega
  · rw [if_pos (show 0 < qa j by omega)] at h; omega
  · rw [if_neg (show ¬ 1 < qa j by omega)] at h; omega
  · rw [if_pos (show 0 < qa j by omega), if_neg (show ¬ 1 < qa j by omega)]; omega
  · rw [if_pos (show 1 < qa j by omega)] at h; omega
  · rw [if_pos (show 0 < qa j by omega), if_pos (show 1 < qa j by omega)]; omega
theorem qWhy_any {Fa : Int → Int → Int → Prop} {S : qSS} {z : Int} : 0 ≤ qWhy Fa S z ↔ qAny Fa S z := by
  unfold qWhy
  obtain ⟨h1, h2, h3⟩ := fstI_s (fun i => qAns Fa (S.1.getD i.toNat (0, 0, [])) z) S.1.length
  by_cases w : fstI (fun i => qAns Fa (S.1.getD i.toNat (0, 0, [])) z) S.1.length < S.1.length
  · rw [if_pos w]
    exact ⟨fun _ => ⟨_, gD_mem (by omega), h2 w⟩, fun _ => h1.1⟩
  · rw [if_neg w]
    refine ⟨fun q => absurd q (by decide), fun ⟨f, hf, ha⟩ => ?_⟩
    obtain ⟨t, ht, et⟩ := gD_ex (d := (0, 0, [])) hf
    exact absurd (show qAns Fa (S.1.getD ((t : Int)).toNat (0, 0, [])) z by rw [show ((t : Int)).toNat = t by omega, et]; exact ha) (h3 (t : Int) (by omega) (by omega))
theorem CQR_answerAt {post : Int → (Nat → Int → Int) → Prop} (H : qcR kd an ai al ar mX40_kinds mX40_lefts mX40_rights mX40_axioms mX40_classFacts mX40_roleFacts mX40_facts mX40_draft mX40_questions mX40_questionCount mX40_forbidden mX40_given mX41_first mX41_second mX41_names mX41_from mX41_to mX41_n mX41_codes mX41_least mX41_hasLeast mX41_others mX41_otherCount mX41_named mX62_answers mX62_names mX62_from mX62_to mX62_n mX62_forms mX62_count mX62_large mX62_known mX85_first mX85_second mX85_codes A G nq nF FF qa ql qS qk kf lf rt na cf rf nf nQ sq sf ow) (hj : 0 ≤ j ∧ j < nq) (hO : qcO A ai ai1) (hq : ∀ F ∈ (qS j).1, qcAq (qa j) F) (h6 : ∀ F ∈ (qS j).1, F.1 < 6 ∧ F.2.1 < 6) (hi : 0 ≤ i ∧ i ≤ 192) (hp1 : ∀ z ai2, qcO A ai ai2 → (0 ≤ z ∧ z < 192) → qAny (qcFa cf rf) (qS j) z → cntI (qAny (qcFa cf rf) (qS j)) z.toNat = i → post z ai2) (hp0 : ∀ ai2, qcO A ai ai2 → (∀ z, 0 ≤ z → z < 192 → ¬ (qAny (qcFa cf rf) (qS j) z ∧ cntI (qAny (qcFa cf rf) (qS j)) z.toNat = i)) → post (-1 - cntI (qAny (qcFa cf rf) (qS j)) 192) ai2) : wpQR_X40_answerAt post kd an ai1 ar mX40_classFacts mX40_roleFacts mX40_given mX62_answers mX62_forms mX62_count mX85_first mX85_second mX85_codes (A 0 0) (some (A 9 j)) i := by
  unfold wpQR_X40_answerAt
  refine wl4 (fun fu lf_ n z ai' => wQR_X40_answerAt_8 _ _ (A 0 0) (some (A 9 j)) kd an ar mX40_classFacts mX40_roleFacts mX40_given mX62_answers mX62_forms mX62_count mX85_first mX85_second mX85_codes fu lf_ n z ai') (fun lf_ n z ai' => (0 ≤ z ∧ z ≤ 192) ∧ n = cntI (qAny (qcFa cf rf) (qS j)) z.toNat ∧ lf_ = i - n ∧ 0 ≤ lf_ ∧ qcO A ai ai' ∧ ∀ t, 0 ≤ t → t < z → ¬ (qAny (qcFa cf rf) (qS j) t ∧ cntI (qAny (qcFa cf rf) (qS j)) t.toNat = i)) (fun _ _ z _ => (192 - z).toNat) ?_ i 0 0 ai1 ⟨by omega, rfl, by omega, by omega, hO, fun t a b => by omega⟩
  rintro lf_ n z ai2 ⟨hz, en, el, l0, O2, no⟩ fu ih
  have cb := cntI_b (qAny (qcFa cf rf) (qS j)) z.toNat
  rw [wQR_X40_answerAt_8]
  have skip : ¬ 192 ≤ z → ¬ qAny (qcFa cf rf) (qS j) z → ∀ ai3, qcO A ai ai3 → ∀ z' : Int, z' = z + 1 → wQR_X40_answerAt_8 _ _ (A 0 0) (some (A 9 j)) kd an ar mX40_classFacts mX40_roleFacts mX40_given mX62_answers mX62_forms mX62_count mX85_first mX85_second mX85_codes fu lf_ n z' ai3 := fun w na_ ai3 O3 z' ez => by
    rw [ez]
    refine ih _ _ _ _ ⟨by omega, by rw [en, cntI_f hz.1 na_], el, l0, O3, fun t t0 t1 => ?_⟩ (by omega)
    by_cases y : t = z
    · rw [y]; exact fun q => na_ q.1
    · exact no t t0 (by omega)
  refine ⟨fun w => ?_, fun w => CQR_isAnswerB H hj (fun ia => CQR_firstWith H hj O2 hq ia (fun ai3 O3 => ⟨fun ge => ?_, fun lt => ⟨by omega, skip w (fun q => lt (qWhy_any.2 q)) ai3 O3⟩⟩)) (fun nia => ⟨by omega, skip w (fun ⟨f, hf, ha⟩ => nia (qcAns_i (hq f hf) (h6 f hf) ha).1) ai2 O2⟩)⟩
  · have e192 : z = 192 := by omega
    rw [e192] at en
    have en' : n = cntI (qAny (qcFa cf rf) (qS j)) 192 := en
    have cb2 := cntI_b (qAny (qcFa cf rf) (qS j)) 192
    refine ⟨by omega, ?_⟩
    rw [en']
    exact hp0 ai2 O2 (fun t t0 t1 => no t t0 (by omega))
  · have an_ := qWhy_any.1 ge
    refine ⟨fun l_ => hp1 z ai3 O3 (by omega) an_ (by omega), fun l_ => ⟨by omega, fun l' el' => ⟨by omega, fun n' en' => ⟨by omega, fun z' ez => ?_⟩⟩⟩⟩
    rw [ez]
    refine ih _ _ _ _ ⟨by omega, by rw [cntI_t hz.1 an_]; omega, by omega, by omega, O3, fun t t0 t1 => ?_⟩ (by omega)
    by_cases y : t = z
    · rw [y]; exact fun q => l_ (by omega)
    · exact no t t0 (by omega)
end
