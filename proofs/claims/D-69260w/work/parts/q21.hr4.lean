/-! HR4: the house's own calls, reference's side (printed by tools/hr4.py) -/
set_option maxRecDepth 100000
set_option maxHeartbeats 4000000
def hrL (e : Nat) (L' : Int → Int) (al al' : Nat → Int → Int) : Prop := al' e = L' ∧ ∀ q, q ≠ e → al' q = al q
section
variable {kd : Nat → Nat} {an : Nat → Nat} {ai : Nat → Int → Int} {al : Nat → Int → Int} {ar : Nat → Int → Option Nat} {mX45_rooms : Nat → Option Nat} {mX45_calls : Nat → Option Nat} {mX45_names : Nat → Option Nat} {mX45_versions : Nat → Option Nat} {mX45_values : Nat → Option Nat} {mX45_proofs : Nat → Option Nat} {mX45_rights : Nat → Option Nat} {mX45_classes : Nat → Option Nat} {mX45_facets : Nat → Option Nat} {mX45_tables : Nat → Option Nat} {mX45_rules : Nat → Option Nat} {mX45_rewrite : Nat → Option Nat} {mX45_disk : Nat → Option Nat} {mX45_tape : Nat → Option Nat} {mX45_size : Nat → Int} {mX45_begins : Nat → Option Nat} {mX45_ends : Nat → Option Nat} {mX45_words : Nat → Int} {mX45_need : Nat → Option Nat} {mX45_told : Nat → Option Nat} {mX45_threw : Nat → Option Nat} {mX45_done : Nat → Int} {mX45_wrong : Nat → Int} {mX45_throwing : Nat → Int} {mX45_ledger : Nat → Option Nat} {mX45_entries : Nat → Int} {mX46_texts : Nat → Option Nat} {MC MS x0 e A : Nat} {t on p n k a b x v w r : Int}
theorem SR_isThere {post : Int → Int → Int → Int → Int → vsS → Prop} (hv : mX45_versions x0 = some (ra 2)) (h : ∀ th' : Int, post (hsOn R48_S t) th' R48_u R48_b R48_d R48_S) : wpSR_X45_isThere MC MS post mX45_versions x0 t :=
  kOn_of hv ⟨rfl, ⟨by omega, by omega⟩, fun _ _ => ⟨⟨by omega, by omega⟩, fun _ _ => ⟨hsOn_o R48_S t, by omega, by omega, h _⟩⟩⟩
theorem SR_lay {post : Int → FcS → reT → Prop} (hf : mX45_facets x0 = some (ra 7)) (hr : mX45_rules x0 = some (ra 9)) (ht : 0 ≤ t) (h : post (hsTell t on R53_S R55_S).1 (hsTell t on R53_S R55_S).2.1 (hsTell t on R53_S R55_S).2.2) : wpSR_X45_lay MC MS post mX45_facets mX45_rules x0 t on := by
  unfold wpSR_X45_lay wSR_X45_lay_45 wpSR_X45_thing wpSR_X45_head wpSR_X45_value cR53_row cR53_drop cR55_remove cR55_fact
  refine ⟨fun z => ?_, fun z => ?_⟩
  · rw [hsTell_0 z] at h
    repeat' first
      | exact rfl
      | exact hs_w32 _
      | exact (hs_w32 _).1
      | exact Or.inr rfl
      | exact Or.inl rfl
      | exact h
      | contradiction
      | refine kOn_of hf ?_
      | refine kOn_of hr ?_
      | refine And.intro ?_ ?_
      | omega
      | rintro _ rfl
      | intro _
  · rw [hsTell_1 z] at h
    repeat' first
      | exact rfl
      | exact hs_w32 _
      | exact (hs_w32 _).1
      | exact Or.inr rfl
      | exact Or.inl rfl
      | exact h
      | contradiction
      | refine kOn_of hf ?_
      | refine kOn_of hr ?_
      | refine And.intro ?_ ?_
      | omega
      | rintro _ rfl
      | intro _
theorem SR_enter {post : (Nat → Int → Int) → (Nat → Int) → Prop} (he : mX45_ledger x0 = some e) (ke : kd e = 5) (ne : an e = 1200) (en : mX45_entries x0 = n) (hn : 0 ≤ n ∧ n ≤ 1000)
    (h : ∀ al' c', hrL e (hsEnt k a b (al e) n) al al' → c' x0 = n + 1 → post al' c') : wpSR_X45_enter post kd an al mX45_ledger mX45_entries x0 k a b := by
  unfold wpSR_X45_enter
  rw [en]
  refine ⟨fun z => ⟨by omega, fun y ey c ec => ?_⟩, fun z => ?_⟩
  · subst ey ec
    exact h _ _ ⟨(hsEnt_0 (by omega)).symm, fun _ _ => rfl⟩ (va_up_self _ _ _)
  · refine kOn_of he ⟨ke, ⟨by omega, by rw [ne]; omega⟩, by omega, fun a1 e1 => ⟨⟨by omega, by rw [ne]; omega⟩, by omega, fun a2 e2 => ⟨⟨by omega, by rw [ne]; omega⟩, by omega, fun a3 e3 => ⟨by omega, fun y ey c ec => ?_⟩⟩⟩⟩
    subst ey ec e1 e2 e3
    refine h _ _ ⟨?_, fun q hq => ?_⟩ (va_up_self _ _ _)
    · rw [hsEnt_1 (by omega), va_up_self, va_up_self, va_up_self]
    · rw [va_up_ne _ _ hq, va_up_ne _ _ hq, va_up_ne _ _ hq]
theorem SR_say {post : Int → (Nat → Int → Int) → (Nat → Int) → (Nat → Int) → Int → Int → Int → Int → vsS → rdT → FcS → reT → Prop} (hv : mX45_versions x0 = some (ra 2)) (hg : mX45_rights x0 = some (ra 5)) (hf : mX45_facets x0 = some (ra 7)) (hr : mX45_rules x0 = some (ra 9)) (he : mX45_ledger x0 = some e) (ke : kd e = 5) (ne : an e = 1200) (en : mX45_entries x0 = n) (h0 : 0 ≤ n ∧ n ≤ 1000) (kx : kd x0 = 1) (t0 : mX45_throwing x0 = 0)
    (hh : R48_u ≤ 198 ∧ R48_b ≤ 58 ∧ R48_d ≤ 60) (hon : on = 0 ∨ on = 1)
    (h : ∀ (th' u' b' d' : Int) al' thr' c', (R48_u ≤ u' ∧ u' ≤ R48_u + 2) → (R48_b ≤ b' ∧ b' ≤ R48_b + 1) → (R48_d ≤ d' ∧ d' ≤ R48_d + 1) → hrL e (hsSay p t on R48_S R51_S R53_S R55_S (al e) n).2.2.2.2.2.1 al al' → thr' x0 = 0 → c' x0 = (hsSay p t on R48_S R51_S R53_S R55_S (al e) n).2.2.2.2.2.2 → (hsSay p t on R48_S R51_S R53_S R55_S (al e) n).1 = 0 →
      post (hsSay p t on R48_S R51_S R53_S R55_S (al e) n).2.1 al' thr' c' th' u' b' d' (hsSay p t on R48_S R51_S R53_S R55_S (al e) n).2.2.1 R51_S (hsSay p t on R48_S R51_S R53_S R55_S (al e) n).2.2.2.1 (hsSay p t on R48_S R51_S R53_S R55_S (al e) n).2.2.2.2.1) : wpSR_X45_say MC MS post kd an al mX45_versions mX45_rights mX45_facets mX45_rules mX45_throwing mX45_ledger mX45_entries x0 p t on := by
  have bad : (t < 0 ∨ 200 ≤ t) → 0 ≤ MC ∧ 0 ≤ MS ∧ post (-1) al mX45_throwing mX45_entries R48_th R48_u R48_b R48_d R48_S R51_S R53_S R55_S := fun z => by
    rw [hsSay_b z] at h
    exact ⟨by omega, by omega, h _ _ _ _ _ _ _ (by omega) (by omega) (by omega) ⟨rfl, fun _ _ => rfl⟩ t0 en rfl⟩
  refine ⟨fun z => bad (by omega), fun z1 => ⟨fun z2 => ?_, fun z => bad (by omega)⟩⟩
  have nt : ¬ (t < 0 ∨ 200 ≤ t) := by omega
  have go : vsF R48_S → ∀ y th0 : Int, y = hsSv R48_S → wSR_X45_say_55 MC MS post x0 t on (vsLatest R48_S) (mX45_rights x0) p (t / 50) (t / 4 % 5) (t % 4) y kd an al mX45_versions mX45_facets mX45_rules mX45_throwing mX45_ledger mX45_entries th0 R48_u R48_b R48_d R48_S R51_S R53_S R55_S ra 0 0 := by
    intro hV y th0 ey
    subst ey
    have hS := hsV_say (on := on) hV ⟨by omega, z2⟩
    have c0 : (((vsBegin R48_S).1 : Nat) : Int) = 0 := by rw [hS.1]; rfl
    refine kOn_of hg ⟨rfl, ⟨by omega, by omega⟩, fun _ => ⟨fun m => ?_, fun m => ?_⟩⟩
    · refine kOn_of hv ⟨rfl, ⟨by omega, by omega⟩, hh.2.1, fun _ _ => ⟨⟨by omega, by omega⟩, fun _ _ => ⟨fun _ => ⟨⟨by omega, by omega⟩, by omega, hon, fun _ _ => ⟨fun q => ?_, fun q => ?_⟩⟩, fun w => absurd c0 w⟩⟩⟩
      · have hC := hS.2.2.2.2 q
        have c1 : (((vsCommit (vsBegin R48_S).2.1 (vsPut (vsBegin R48_S).2.1 t on (vsBegin R48_S).2.2).2.2).1 : Nat) : Int) = 0 := by rw [hC.1]; rfl
        refine ⟨⟨by omega, by omega⟩, by omega, hh.2.2, fun _ _ => ⟨⟨by omega, by omega⟩, fun _ _ => ⟨fun _ => ?_, fun w => absurd c1 w⟩⟩⟩
        refine kOn_some ⟨kx, Or.inl rfl, fun th eth => ?_⟩
        have q0 : th x0 = 0 := by rw [eth, va_up_self]
        refine ⟨fun _ => kOn_of hv ⟨rfl, ⟨by omega, by omega⟩, fun _ _ => ⟨fun y => ?_, fun y => ?_⟩⟩, fun w => absurd q0 w⟩
        · rw [hsSay_5 nt m hS.1 q hC.1 (hC.2.mpr y)] at h
          exact ⟨by omega, by omega, h _ _ _ _ _ _ _ (by omega) (by omega) (by omega) ⟨rfl, fun _ _ => rfl⟩ q0 en rfl⟩
        · rw [hsSay_6 nt m hS.1 q hC.1 (fun w => y (hC.2.mp w))] at h
          exact ⟨0, 0, ⟨by omega, by omega⟩, SR_lay hf hr (by omega) ⟨⟨by omega, by omega⟩, SR_enter he ke ne en h0 (fun al' c' L' ec => ⟨by omega, by omega, h _ _ _ _ al' _ c' (by omega) (by omega) (by omega) L' q0 ec rfl⟩)⟩⟩
      · have hA := hS.2.2.2.1 q
        rw [hsSay_4 nt m hS.1 q] at h
        exact ⟨⟨by omega, by omega⟩, by omega, fun _ _ => ⟨by omega, by omega, h _ _ _ _ _ _ _ (by omega) (by omega) (by omega) ⟨rfl, fun _ _ => rfl⟩ t0 en rfl⟩⟩
    · rw [hsSay_2 nt m] at h
      exact ⟨by omega, by omega, h _ _ _ _ _ _ _ (by omega) (by omega) (by omega) ⟨rfl, fun _ _ => rfl⟩ t0 en rfl⟩
  have sv : (7 ≤ vsLatest R48_S → 7 = hsSv R48_S) ∧ (¬ 7 ≤ vsLatest R48_S → vsLatest R48_S = hsSv R48_S) := by
    unfold hsSv
    constructor
    · intro y
      split
      · omega
      · rfl
    · intro y
      rw [if_pos (by omega)]
  refine kOn_of hv ⟨rfl, ⟨by omega, by omega⟩, fun _ hV => ⟨by omega, ⟨by omega, by omega⟩, by omega, by omega, ⟨by omega, by omega⟩, by omega, fun y => go hV _ _ (sv.1 y), fun y => go hV _ _ (sv.2 y)⟩⟩
theorem SR_levelL {K : Int → Int → Int → Int → Int → vsS → FcS → reT → Nat → Nat → Prop} (hv : mX45_versions x0 = some (ra 2)) (hf : mX45_facets x0 = some (ra 7)) (hr : mX45_rules x0 = some (ra 9)) :
    ∀ (m : Nat) (t n th : Int) (F : FcS) (E : reT) (kc ks : Nat), t + m = 200 → 0 ≤ t → (0 ≤ n ∧ n ≤ t) → kc ≤ MC → ks ≤ MS →
    (∀ (th' : Int) (kc' ks' : Nat), kc' ≤ MC → ks' ≤ MS → K (hsLev R48_S m t n F E).1 th' R48_u R48_b R48_d R48_S (hsLev R48_S m t n F E).2.1 (hsLev R48_S m t n F E).2.2 kc' ks') →
    wSR_X45_level_4 MC MS K x0 mX45_versions mX45_facets mX45_rules ra (m + 1) n t th R48_u R48_b R48_d R48_S F E kc ks := by
  intro m
  induction m with
  | zero =>
    intro t n th F E kc ks et h0 hn hC hS hK
    exact ⟨fun _ => hK th kc ks hC hS, fun z => absurd (by omega) z⟩
  | succ m ih =>
    intro t n th F E kc ks et h0 hn hC hS hK
    refine ⟨fun z => absurd z (by omega), fun _ => ⟨0, 0, ⟨by omega, by omega⟩, SR_isThere hv (fun th' => ⟨0, 0, ⟨by omega, by omega⟩, SR_lay hf hr h0 ⟨fun z => ⟨by omega, fun n' en => ⟨by omega, fun t' et' => ?_⟩⟩, fun z => ⟨by omega, fun t' et' => ?_⟩⟩⟩)⟩⟩
    · subst en et'
      have e1 : hsLev R48_S (m + 1) t n F E = hsLev R48_S m (t + 1) (n + 1) (hsTell t (hsOn R48_S t) F E).2.1 (hsTell t (hsOn R48_S t) F E).2.2 := by
        show hsLev R48_S m (t + 1) (if (hsTell t (hsOn R48_S t) F E).1 = 1 then n + 1 else n) _ _ = _
        rw [if_pos z]
      rw [e1] at hK
      exact ih (t + 1) (n + 1) _ _ _ _ _ (by omega) (by omega) (by omega) (by omega) (by omega) hK
    · subst et'
      have e1 : hsLev R48_S (m + 1) t n F E = hsLev R48_S m (t + 1) n (hsTell t (hsOn R48_S t) F E).2.1 (hsTell t (hsOn R48_S t) F E).2.2 := by
        show hsLev R48_S m (t + 1) (if (hsTell t (hsOn R48_S t) F E).1 = 1 then n + 1 else n) _ _ = _
        rw [if_neg z]
      rw [e1] at hK
      exact ih (t + 1) n _ _ _ _ _ (by omega) (by omega) (by omega) (by omega) (by omega) hK
theorem SR_level {post : Int → Int → Int → Int → Int → vsS → FcS → reT → Prop} (hv : mX45_versions x0 = some (ra 2)) (hf : mX45_facets x0 = some (ra 7)) (hr : mX45_rules x0 = some (ra 9))
    (h : ∀ th' : Int, post (hsLev R48_S 200 0 0 R53_S R55_S).1 th' R48_u R48_b R48_d R48_S (hsLev R48_S 200 0 0 R53_S R55_S).2.1 (hsLev R48_S 200 0 0 R53_S R55_S).2.2) : wpSR_X45_level MC MS post mX45_versions mX45_facets mX45_rules x0 :=
  ⟨201, SR_levelL hv hf hr 200 0 0 R48_th R53_S R55_S 0 0 (by decide) (by decide) (by omega) (by omega) (by omega) (fun th' kc' ks' h1 h2 => ⟨h1, h2, h th'⟩)⟩
theorem SR_pub4 {K : Int → cnT → Nat → Nat → Prop} {kc ks : Nat} (hn : mX45_names x0 = some (ra 1)) (hM : kc ≤ MC ∧ ks ≤ MS) (h : ∀ th', K th' (hsB4 R47_S) kc ks) : wSR_X45_publish_18 MC MS K x0 mX45_names ra 5 0 R47_th R47_S kc ks := by
  refine ⟨fun z => absurd z (by decide), fun _ => kOn_of hn ⟨rfl, hM, fun _ => ⟨by decide, fun y ey => ?_⟩⟩⟩
  subst ey
  refine ⟨fun z => absurd z (by decide), fun _ => kOn_of hn ⟨rfl, hM, fun _ => ⟨by decide, fun y ey => ?_⟩⟩⟩
  subst ey
  refine ⟨fun z => absurd z (by decide), fun _ => kOn_of hn ⟨rfl, hM, fun _ => ⟨by decide, fun y ey => ?_⟩⟩⟩
  subst ey
  refine ⟨fun z => absurd z (by decide), fun _ => kOn_of hn ⟨rfl, hM, fun _ => ⟨by decide, fun y ey => ?_⟩⟩⟩
  subst ey
  exact ⟨fun _ => h _, fun z => absurd (by decide) z⟩
theorem SR_pubL {K : Int → cnT → Int → Int → Int → Int → vsS → Nat → Nat → Prop} (hn : mX45_names x0 = some (ra 1)) (hv : mX45_versions x0 = some (ra 2)) :
    ∀ (m : Nat) (t th ti : Int) (N : cnT) (kc ks : Nat), t + m = 200 → 0 ≤ t → kc ≤ MC → ks ≤ MS → (∀ (th' ti' : Int) (kc' ks' : Nat), kc' ≤ MC → ks' ≤ MS → K th' (hsPub R48_S m t N) ti' R48_u R48_b R48_d R48_S kc' ks') →
    wSR_X45_publish_39 MC MS K x0 mX45_names mX45_versions ra (m + 1) t th N ti R48_u R48_b R48_d R48_S kc ks := by
  intro m
  induction m with
  | zero =>
    intro t th ti N kc ks et h0 hC hS hK
    exact ⟨fun _ => hK th ti kc ks hC hS, fun z => absurd (by omega) z⟩
  | succ m ih =>
    intro t th ti N kc ks et h0 hC hS hK
    refine ⟨fun z => absurd z (by omega), fun _ => ⟨0, 0, ⟨by omega, by omega⟩, SR_isThere hv (fun th' => ⟨fun z => ⟨by omega, fun t' et' => ?_⟩, fun z => ?_⟩)⟩⟩
    · subst et'
      have e1 : hsPub R48_S (m + 1) t N = hsPub R48_S m (t + 1) N := by
        show hsPub R48_S m (t + 1) (if hsOn R48_S t = 0 then N else _) = _
        rw [if_pos z]
      rw [e1] at hK
      exact ih (t + 1) _ _ N _ _ (by omega) (by omega) (by omega) (by omega) hK
    · refine ⟨⟨by omega, by omega⟩, h0, fun g => ?_, fun g => ?_⟩
      · have e1 : hsPub R48_S (m + 1) t N = hsPub R48_S m (t + 1) (cnqTriple (5 - t / 20, 100 + t / 4 % 5, 200 + t % 4) N).2 := by
          show hsPub R48_S m (t + 1) (if hsOn R48_S t = 0 then N else (cnqTriple (if 6 ≤ t / 20 then 5 - t / 20 else t / 20 + 1, 100 + t / 4 % 5, 200 + t % 4) N).2) = _
          rw [if_neg z, if_pos g]
        rw [e1] at hK
        refine ⟨⟨by omega, by omega⟩, h0, ⟨by omega, by omega⟩, ⟨h0, by omega, ⟨by omega, by omega⟩, ⟨h0, kOn_of hn ⟨by omega, by omega, by omega, rfl, ⟨by omega, by omega⟩, fun _ => ⟨by omega, fun t' et' => ?_⟩⟩⟩⟩⟩
        subst et'
        exact ih (t + 1) _ _ _ _ _ (by omega) (by omega) (by omega) (by omega) hK
      · have e1 : hsPub R48_S (m + 1) t N = hsPub R48_S m (t + 1) (cnqTriple (t / 20 + 1, 100 + t / 4 % 5, 200 + t % 4) N).2 := by
          show hsPub R48_S m (t + 1) (if hsOn R48_S t = 0 then N else (cnqTriple (if 6 ≤ t / 20 then 5 - t / 20 else t / 20 + 1, 100 + t / 4 % 5, 200 + t % 4) N).2) = _
          rw [if_neg z, if_neg g]
        rw [e1] at hK
        refine ⟨⟨by omega, by omega⟩, h0, ⟨by omega, by omega⟩, ⟨h0, by omega, ⟨by omega, by omega⟩, ⟨h0, kOn_of hn ⟨by omega, by omega, by omega, rfl, ⟨by omega, by omega⟩, fun _ => ⟨by omega, fun t' et' => ?_⟩⟩⟩⟩⟩
        subst et'
        exact ih (t + 1) _ _ _ _ _ (by omega) (by omega) (by omega) (by omega) hK
theorem SR_publish {post : Int → (Nat → Int → Int) → (Nat → Int) → Int → cnT → Int → Int → Int → Int → vsS → Prop} (hn : mX45_names x0 = some (ra 1)) (hv : mX45_versions x0 = some (ra 2)) (he : mX45_ledger x0 = some e) (ke : kd e = 5) (ne : an e = 1200) (en : mX45_entries x0 = n) (h0 : 0 ≤ n ∧ n ≤ 1000)
    (h : ∀ (th' ti' : Int) al' c', hrL e (hsPublish R48_S R47_S (al e) n).2.2.1 al al' → c' x0 = (hsPublish R48_S R47_S (al e) n).2.2.2 → post (hsPublish R48_S R47_S (al e) n).1 al' c' th' (hsPublish R48_S R47_S (al e) n).2.1 ti' R48_u R48_b R48_d R48_S) : wpSR_X45_publish MC MS post kd an al mX45_names mX45_versions mX45_ledger mX45_entries x0 := by
  refine kOn_of hn ⟨rfl, ⟨by omega, by omega⟩, fun zk => ⟨fun z => ⟨5, SR_pub4 hn ⟨by omega, by omega⟩ (fun th' => ⟨201, ?_⟩)⟩, fun z => ?_⟩⟩
  · refine SR_pubL hn hv 200 0 _ _ _ _ _ (by decide) (by decide) (by omega) (by omega) (fun th' ti' kc' ks' e1 e2 => kOn_of hn ⟨rfl, ⟨by omega, by omega⟩, fun zn => ⟨⟨by omega, by omega⟩, ?_⟩⟩)
    refine SR_enter he ke ne en h0 (fun al' c' L' ec => ⟨⟨by omega, by omega⟩, fun zi => ⟨by omega, by omega, ?_⟩⟩)
    have e3 : hsPublish R48_S R47_S (al e) n = (cnqIso (cnqKeep R47_S).1 (cnqName 5000 (hsPub R48_S 200 0 (hsB4 (cnqKeep R47_S).2))).2, (cnqName 5000 (hsPub R48_S 200 0 (hsB4 (cnqKeep R47_S).2))).2, hsEnt 1 (cnqKeep R47_S).1 (cnqName 5000 (hsPub R48_S 200 0 (hsB4 (cnqKeep R47_S).2))).1 (al e) n, n + 1) := if_neg (by omega)
    rw [e3] at h
    exact h _ _ al' c' L' ec
  · have e3 : hsPublish R48_S R47_S (al e) n = (-1, (cnqKeep R47_S).2, al e, n) := if_pos (by omega)
    rw [e3] at h
    exact ⟨by omega, by omega, h _ _ al mX45_entries ⟨rfl, fun _ _ => rfl⟩ en⟩
theorem SR_under {post : Int → (Nat → Int → Int) → (Nat → Int) → Int → Int → ctT → FcS → qrT → Prop} (hc : mX45_classes x0 = some (ra 6)) (hf : mX45_facets x0 = some (ra 7)) (hq : mX45_rewrite x0 = some (ra 10)) (he : mX45_ledger x0 = some e) (ke : kd e = 5) (ne : an e = 1200) (en : mX45_entries x0 = n) (h0 : 0 ≤ n ∧ n ≤ 1000) (ha : zR a) (hb : zR b)
    (h : ∀ (th' : Int) al' c', hrL e (hsUnder a b R52_S R53_S R56_S (al e) n).2.2.2.2.1 al al' → c' x0 = (hsUnder a b R52_S R53_S R56_S (al e) n).2.2.2.2.2 → post (hsUnder a b R52_S R53_S R56_S (al e) n).1 al' c' th' R52_u (hsUnder a b R52_S R53_S R56_S (al e) n).2.1 (hsUnder a b R52_S R53_S R56_S (al e) n).2.2.1 (hsUnder a b R52_S R53_S R56_S (al e) n).2.2.2.1) : wpSR_X45_under MC MS post kd an al mX45_classes mX45_facets mX45_rewrite mX45_ledger mX45_entries x0 a b := by
  refine kOn_of hc ⟨rfl, ⟨by omega, by omega⟩, fun _ _ => ⟨fun z => ?_, fun z => ?_⟩⟩
  · have e3 : hsUnder a b R52_S R53_S R56_S (al e) n = ((ctAxiom a (-1) b R52_S).1, (ctAxiom a (-1) b R52_S).2, R53_S, R56_S, al e, n) := if_pos z
    rw [e3] at h
    exact ⟨by omega, by omega, h _ al mX45_entries ⟨rfl, fun _ _ => rfl⟩ en⟩
  · have e3 : hsUnder a b R52_S R53_S R56_S (al e) n = ((ctAxiom a (-1) b R52_S).1, (ctAxiom a (-1) b R52_S).2, (fsAbove R53_S (Int32.ofInt a) (Int32.ofInt b)).2, (qqAxiom 0 a b R56_S).2, hsEnt 2 a b (al e) n, n + 1) := if_neg z
    rw [e3] at h
    unfold cR56_axiom
    repeat' first
      | exact rfl
      | exact hs_w32 _
      | exact (hs_w32 _).1
      | exact Or.inr rfl
      | exact Or.inl rfl
      | exact SR_enter he ke ne en h0 (fun al' c' L' ec => ⟨by omega, by omega, h _ al' c' L' ec⟩)
      | exact ha
      | exact hb
      | contradiction
      | refine kOn_of hf ?_
      | refine kOn_of hq ?_
      | refine And.intro ?_ ?_
      | omega
      | rintro _ rfl
      | intro _
theorem SR_is {post : Int → (Nat → Int → Int) → (Nat → Int) → Int → Int → ctT → FcS → qrT → Prop} (hc : mX45_classes x0 = some (ra 6)) (hf : mX45_facets x0 = some (ra 7)) (hq : mX45_rewrite x0 = some (ra 10)) (he : mX45_ledger x0 = some e) (ke : kd e = 5) (ne : an e = 1200) (en : mX45_entries x0 = n) (h0 : 0 ≤ n ∧ n ≤ 1000) (ha : zR a) (hb : zR b)
    (h : ∀ (th' : Int) al' c', hrL e (hsIs a b R52_S R53_S R56_S (al e) n).2.2.2.2.1 al al' → c' x0 = (hsIs a b R52_S R53_S R56_S (al e) n).2.2.2.2.2 → post (hsIs a b R52_S R53_S R56_S (al e) n).1 al' c' th' R52_u (hsIs a b R52_S R53_S R56_S (al e) n).2.1 (hsIs a b R52_S R53_S R56_S (al e) n).2.2.1 (hsIs a b R52_S R53_S R56_S (al e) n).2.2.2.1) : wpSR_X45_is MC MS post kd an al mX45_classes mX45_facets mX45_rewrite mX45_ledger mX45_entries x0 a b := by
  refine kOn_of hc ⟨rfl, ⟨by omega, by omega⟩, fun _ _ => ⟨fun z => ?_, fun z => ?_⟩⟩
  · have e3 : hsIs a b R52_S R53_S R56_S (al e) n = ((ctPut a b R52_S).1, (ctPut a b R52_S).2, R53_S, R56_S, al e, n) := if_pos z
    rw [e3] at h
    exact ⟨by omega, by omega, h _ al mX45_entries ⟨rfl, fun _ _ => rfl⟩ en⟩
  · have e3 : hsIs a b R52_S R53_S R56_S (al e) n = ((ctPut a b R52_S).1, (ctPut a b R52_S).2, (fsRow R53_S (Int32.ofInt a) (Int32.ofInt 0) (Int32.ofInt b)).2, (qqFact 0 b a 0 R56_S).2, if (ctPut a b R52_S).1 = 1 then hsEnt 3 a b (al e) n else al e, if (ctPut a b R52_S).1 = 1 then n + 1 else n) := if_neg z
    rw [e3] at h
    refine kOn_of hq ⟨rfl, ⟨by omega, by omega⟩, ?_⟩
    unfold cR56_fact
    refine fun _ => kOn_of hf ⟨rfl, ⟨by omega, by omega⟩, fun _ => ⟨fun y => ?_, fun y => ?_⟩⟩
    · rw [if_pos y, if_pos y] at h
      exact ⟨⟨by omega, by omega⟩, SR_enter he ke ne en h0 (fun al' c' L' ec => ⟨by omega, by omega, h _ al' c' L' ec⟩)⟩
    · rw [if_neg y, if_neg y] at h
      exact ⟨by omega, by omega, h _ al mX45_entries ⟨rfl, fun _ _ => rfl⟩ en⟩
theorem SR_ordI {K : Int → Int → Int → ctT → reT → Nat → Nat → Prop} (hc : mX45_classes x0 = some (ra 6)) (hr : mX45_rules x0 = some (ra 9)) (hF : ctF R52_S) :
    ∀ (m : Nat) (i b n th : Int) (E : reT) (kc ks : Nat), 20 ≤ i + m → 0 ≤ i → i ≤ 30 → b = ctParent a i R52_S → (0 ≤ n ∧ n + m ≤ 2000) → kc ≤ MC → ks ≤ MS →
    (∀ (th' : Int) (kc' ks' : Nat), kc' ≤ MC → ks' ≤ MS → (0 ≤ (hsOrI R52_S a m i b n E).1 ∧ (hsOrI R52_S a m i b n E).1 ≤ n + m) → K (hsOrI R52_S a m i b n E).1 th' R52_u R52_S (hsOrI R52_S a m i b n E).2 kc' ks') →
    wSR_X45_order_38 MC MS K x0 a mX45_classes mX45_rules ra (m + 1) n i b th R52_u R52_S E kc ks := by
  intro m
  induction m with
  | zero =>
    intro i b n th E kc ks hi h0 h3 eb hn hC hS hK
    have := hsC_par (a := a) hF (i := i) (by omega)
    exact ⟨fun _ => hK th kc ks hC hS ⟨hn.1, by show n ≤ n + (0 : Nat); omega⟩, fun z => absurd (by omega) z⟩
  | succ m ih =>
    intro i b n th E kc ks hi h0 h3 eb hn hC hS hK
    refine ⟨fun z => ?_, fun z => ?_⟩
    · have e1 : hsOrI R52_S a (m + 1) i b n E = (n, E) := if_pos z
      rw [e1] at hK
      exact hK th kc ks hC hS ⟨hn.1, by show n ≤ n + (m + 1 : Nat); omega⟩
    · have hi2 : i < 20 := by
        rcases Int.lt_or_le i 20 with q | q
        · exact q
        · have := hsC_par (a := a) hF (i := i) q
          omega
      refine kOn_of hr ⟨rfl, ⟨by omega, by omega⟩, fun _ => ⟨fun y => ⟨by omega, fun n' en => ⟨by omega, fun i' ei => ?_⟩⟩, fun y => ⟨by omega, fun i' ei => ?_⟩⟩⟩
      · subst en ei
        have e1 : hsOrI R52_S a (m + 1) i b n E = hsOrI R52_S a m (i + 1) (ctParent a (i + 1) R52_S) (n + 1) (rqFact 15 a b E).2 := by
          refine (if_neg z).trans ?_
          rw [if_pos y]
        rw [e1] at hK
        exact kOn_of hc ⟨rfl, ⟨by omega, by omega⟩, by omega, fun _ _ => ih (i + 1) _ (n + 1) _ _ _ _ (by omega) (by omega) (by omega) rfl (by omega) (by omega) (by omega) (fun th' kc' ks' q2 q3 q4 => hK th' kc' ks' q2 q3 ⟨q4.1, by have := q4.2; omega⟩)⟩
      · subst ei
        have e1 : hsOrI R52_S a (m + 1) i b n E = hsOrI R52_S a m (i + 1) (ctParent a (i + 1) R52_S) n (rqFact 15 a b E).2 := by
          refine (if_neg z).trans ?_
          rw [if_neg y]
        rw [e1] at hK
        exact kOn_of hc ⟨rfl, ⟨by omega, by omega⟩, by omega, fun _ _ => ih (i + 1) _ n _ _ _ _ (by omega) (by omega) (by omega) rfl (by omega) (by omega) (by omega) (fun th' kc' ks' q2 q3 q4 => hK th' kc' ks' q2 q3 ⟨q4.1, by have := q4.2; omega⟩)⟩
theorem SR_ordO {K : Int → Int → Int → ctT → reT → Nat → Nat → Prop} (hc : mX45_classes x0 = some (ra 6)) (hr : mX45_rules x0 = some (ra 9)) (hF : ctF R52_S) :
    ∀ (m : Nat) (a n th : Int) (E : reT) (kc ks : Nat), 20 ≤ a + m → 0 ≤ a → a ≤ 30 → (0 ≤ n ∧ n + 30 * m ≤ 1000) → kc ≤ MC → ks ≤ MS →
    (∀ (th' : Int) (kc' ks' : Nat), kc' ≤ MC → ks' ≤ MS → K (hsOrO R52_S m a n E).1 th' R52_u R52_S (hsOrO R52_S m a n E).2 kc' ks') →
    wSR_X45_order_12 MC MS K x0 mX45_classes mX45_rules ra (m + 1) n a th R52_u R52_S E kc ks := by
  have hcn := hsC_cnt hF
  intro m
  induction m with
  | zero =>
    intro a n th E kc ks hi h0 h3 hn hC hS hK
    exact kOn_of hc ⟨rfl, ⟨by omega, by omega⟩, fun _ _ => ⟨fun _ => hK _ kc ks hC hS, fun z => absurd (by omega) z⟩⟩
  | succ m ih =>
    intro a n th E kc ks hi h0 h3 hn hC hS hK
    refine kOn_of hc ⟨rfl, ⟨by omega, by omega⟩, fun _ _ => ⟨fun z => ?_, fun z => ⟨⟨by omega, by omega⟩, by omega, fun _ _ => ⟨31, ?_⟩⟩⟩⟩
    · have e1 : hsOrO R52_S (m + 1) a n E = (n, E) := if_pos z
      rw [e1] at hK
      exact hK _ kc ks hC hS
    · have e1 : hsOrO R52_S (m + 1) a n E = hsOrO R52_S m (a + 1) (hsOrI R52_S a 30 0 (ctParent a 0 R52_S) n E).1 (hsOrI R52_S a 30 0 (ctParent a 0 R52_S) n E).2 := if_neg z
      rw [e1] at hK
      refine SR_ordI hc hr hF 30 0 _ n _ E kc ks (by decide) (by decide) (by decide) rfl (by omega) hC hS (fun th' kc' ks' q2 q3 q4 => ⟨by omega, fun a' ea => ?_⟩)
      subst ea
      exact ih (a + 1) _ _ _ kc' ks' (by omega) (by omega) (by omega) (by omega) q2 q3 hK
theorem SR_order {post : Int → Int → Int → ctT → reT → Prop} (hc : mX45_classes x0 = some (ra 6)) (hr : mX45_rules x0 = some (ra 9)) (hu : R52_u ≤ 500000)
    (h : ∀ th' : Int, post (hsOrO (ctRun R52_S).2 30 0 0 R55_S).1 th' (R52_u + 860) (ctRun R52_S).2 (hsOrO (ctRun R52_S).2 30 0 0 R55_S).2) : wpSR_X45_order MC MS post mX45_classes mX45_rules x0 :=
  kOn_of hc ⟨rfl, ⟨by omega, by omega⟩, by omega, fun _ F => ⟨31, SR_ordO hc hr F 30 0 0 _ R55_S 0 0 (by decide) (by decide) (by decide) (by decide) (by omega) (by omega) (fun th' kc' ks' q2 q3 => ⟨q2, q3, h th'⟩)⟩⟩
theorem SR_tak {K : Int → (Nat → Int) → Int → vrS → qrT → Nat → Nat → Prop} {KX : (Nat → Int) → Int → vrS → qrT → Nat → Nat → Prop} (ht : mX45_tables x0 = some (ra 8)) (hq : mX45_rewrite x0 = some (ra 10)) (kx : kd x0 = 1) {N : Int} :
    ∀ (m : Nat) (i n th : Int) (tw : Nat → Int) (Q : qrT) (kc ks : Nat), (N ≤ i + m ∧ (m = 0 ∨ i + m = N)) → 0 ≤ i → (0 ≤ n ∧ n + m ≤ 1000) → kc ≤ MC → ks ≤ MS → tw x0 = 0 →
    (∀ (th' : Int) (tw' : Nat → Int) (kc' ks' : Nat), kc' ≤ MC → ks' ≤ MS → tw' x0 = 0 → (hsTak R54_S v w r m i n Q).1 = 0 → K (hsTak R54_S v w r m i n Q).2.1 tw' th' R54_S (hsTak R54_S v w r m i n Q).2.2 kc' ks') → (∀ (th' : Int) (tw' : Nat → Int) (kc' ks' : Nat), kc' ≤ MC → ks' ≤ MS → tw' x0 = 1 → ¬ (hsTak R54_S v w r m i n Q).1 = 0 → KX tw' th' R54_S (hsTak R54_S v w r m i n Q).2.2 kc' ks') →
    wSR_X45_take_37 MC MS KX K x0 v w r N kd mX45_tables mX45_rewrite ra (m + 1) n i tw th R54_S Q kc ks := by
  intro m
  induction m with
  | zero =>
    intro i n th tw Q kc ks hi h0 hn hC hS t0 hK hx
    exact ⟨fun _ => hK th tw kc ks hC hS t0 rfl, fun z => absurd (by omega) z⟩
  | succ m ih =>
    intro i n th tw Q kc ks hi h0 hn hC hS t0 hK hx
    have one : ∀ {q : Nat}, ¬ q = 0 → ¬ (if q = 0 then (0 : Int) else 1) = 0 := fun {q} hq => by rw [if_neg hq]; decide
    have zer : ∀ {q : Nat}, q = 0 → (if q = 0 then (0 : Int) else 1) = 0 := fun {q} hq => if_pos hq
    -- the way out when one throws
    have out : ¬ (hsTak R54_S v w r (m + 1) i n Q).1 = 0 → (hsTak R54_S v w r (m + 1) i n Q).2.2 = Q → ∀ (x y th2 : Int) (tw2 : Nat → Int), wSR_X45_take_128 MC MS (wSR_X45_take_37 MC MS KX K x0 v w r N kd mX45_tables mX45_rewrite ra (m + 1)) KX x0 r n i x y (some x0) 1 kd mX45_rewrite tw2 th2 R54_S Q ra kc ks := by
      intro h1 h2 x y th2 tw2
      refine kOn_some ⟨kx, Or.inr rfl, fun tw3 e3 => ?_⟩
      have q1 : tw3 x0 = 1 := by rw [e3, va_up_self]
      have := hx th2 tw3 kc ks hC hS q1 h1
      rw [h2] at this
      exact ⟨fun z => absurd z (by omega), fun _ => this⟩
    refine ⟨fun z => absurd z (by omega), fun _ => kOn_of ht ⟨rfl, ⟨by omega, by omega⟩, fun z1 => ⟨fun _ => ⟨⟨by omega, by omega⟩, fun _ => ⟨fun v0 => ?_, fun v0 => ?_⟩⟩, fun q => absurd t0 q⟩⟩⟩
    · have v1 : (vrValue i v R54_S).1 = 0 := hs_i0.mp v0
      intro tw1 e1
      have q1 : tw1 x0 = 0 := by rw [e1, va_up_self]
      refine ⟨fun _ => ⟨⟨by omega, by omega⟩, fun z2 => ⟨fun _ => kOn_of ht ⟨rfl, ⟨by omega, by omega⟩, fun _ => ⟨fun w0 => ?_, fun w0 => ?_⟩⟩, fun q => absurd q1 q⟩⟩, fun q => absurd q1 q⟩
      · have w1 : (vrValue i w R54_S).1 = 0 := hs_i0.mp w0
        refine kOn_some ⟨kx, Or.inl rfl, fun tw3 e3 => ?_⟩
        have q3 : tw3 x0 = 0 := by rw [e3, va_up_self]
        refine ⟨fun _ => ⟨hsTd z1, hsTd z2, kOn_of hq ⟨rfl, ⟨by omega, by omega⟩, fun _ => ⟨fun y => ⟨by omega, fun n' en => ⟨by omega, fun i' ei => ?_⟩⟩, fun y => ⟨by omega, fun i' ei => ?_⟩⟩⟩⟩, fun q => absurd q3 q⟩
        · subst en ei
          have e1 : hsTak R54_S v w r (m + 1) i n Q = hsTak R54_S v w r m (i + 1) (n + 1) (qqFact 1 r (Int.tmod (vrValue i v R54_S).2 12) (Int.tmod (vrValue i w R54_S).2 12) Q).2 := by
            refine (if_neg (fun q => q v1)).trans ((if_neg (fun q => q w1)).trans ?_)
            rw [if_pos y]
          rw [e1] at hK hx
          exact ih (i + 1) (n + 1) _ _ _ _ _ (by omega) (by omega) (by omega) (by omega) (by omega) q3 hK hx
        · subst ei
          have e1 : hsTak R54_S v w r (m + 1) i n Q = hsTak R54_S v w r m (i + 1) n (qqFact 1 r (Int.tmod (vrValue i v R54_S).2 12) (Int.tmod (vrValue i w R54_S).2 12) Q).2 := by
            refine (if_neg (fun q => q v1)).trans ((if_neg (fun q => q w1)).trans ?_)
            rw [if_neg y]
          rw [e1] at hK hx
          exact ih (i + 1) n _ _ _ _ _ (by omega) (by omega) (by omega) (by omega) (by omega) q3 hK hx
      · have w1 : ¬ (vrValue i w R54_S).1 = 0 := fun q => w0 (zer q)
        have e1 : hsTak R54_S v w r (m + 1) i n Q = ((vrValue i w R54_S).1, -1, Q) := (if_neg (fun q => q v1)).trans (if_pos w1)
        exact out (by rw [e1]; exact w1) (by rw [e1]) _ _ _ _
    · have v1 : ¬ (vrValue i v R54_S).1 = 0 := fun q => v0 (zer q)
      have e1 : hsTak R54_S v w r (m + 1) i n Q = ((vrValue i v R54_S).1, -1, Q) := if_pos v1
      refine kOn_some ⟨kx, fun tw1 e2 => ?_⟩
      have q1 : tw1 x0 = 1 := by rw [e2, va_up_self]
      exact ⟨fun z => absurd z (by omega), fun _ => ⟨fun z => absurd z (by omega), fun _ => out (by rw [e1]; exact v1) (by rw [e1]) _ _ _ _⟩⟩
theorem SR_take {post : Int → (Nat → Int) → Int → vrS → qrT → Prop} (ht : mX45_tables x0 = some (ra 8)) (hq : mX45_rewrite x0 = some (ra 10)) (kx : kd x0 = 1) (t0 : mX45_throwing x0 = 0)
    (h : ∀ (th' : Int) (tw' : Nat → Int), ((hsTake v w r R54_S R56_S).1 = 0 → tw' x0 = 0) → (¬ (hsTake v w r R54_S R56_S).1 = 0 → tw' x0 = 1) → ∀ y, ((hsTake v w r R54_S R56_S).1 = 0 → y = (hsTake v w r R54_S R56_S).2.1) → post y tw' th' (hsTake v w r R54_S R56_S).2.2.1 (hsTake v w r R54_S R56_S).2.2.2) : wpSR_X45_take MC MS post kd mX45_tables mX45_rewrite mX45_throwing x0 v w r := by
  have bad : (v < 0 ∨ 6 ≤ v ∨ w < 0 ∨ 6 ≤ w) → 0 ≤ MC ∧ 0 ≤ MS ∧ post (-2) mX45_throwing R54_th R54_S R56_S := fun z => by
    have e1 : hsTake v w r R54_S R56_S = (0, -2, R54_S, R56_S) := if_pos z
    rw [e1] at h
    exact ⟨by omega, by omega, h _ _ (fun _ => t0) (fun q => absurd rfl q) _ (fun _ => rfl)⟩
  refine ⟨fun z => bad (by omega), fun z1 => ⟨fun z => bad (by omega), fun z2 => ⟨fun z => bad (by omega), fun z3 => ⟨fun z4 => ?_, fun z => bad (by omega)⟩⟩⟩⟩
  have hr := hsT_run R54_S
  have e1 : hsTake v w r R54_S R56_S = ((hsTak (vrRun R54_S).2 v w r (vrRun R54_S).1.toNat 0 0 R56_S).1, if (vrRun R54_S).1 < 0 then (vrRun R54_S).1 else (hsTak (vrRun R54_S).2 v w r (vrRun R54_S).1.toNat 0 0 R56_S).2.1, (vrRun R54_S).2, (hsTak (vrRun R54_S).2 v w r (vrRun R54_S).1.toNat 0 0 R56_S).2.2) := if_neg (by omega)
  rw [e1] at h
  refine kOn_of ht ⟨rfl, ⟨by omega, by omega⟩, fun zr => ⟨(vrRun R54_S).1.toNat + 1, SR_tak ht hq kx (vrRun R54_S).1.toNat 0 0 _ _ R56_S 0 0 (by omega) (by decide) (by omega) (by omega) (by omega) t0 (fun th' tw' kc' ks' q1 q2 q3 q4 => ⟨fun y => ⟨q1, q2, ?_⟩, fun y => ⟨q1, q2, ?_⟩⟩) (fun th' tw' kc' ks' q1 q2 q3 q4 => ⟨q1, q2, ?_⟩)⟩⟩
  · exact h th' tw' (fun _ => q3) (fun q => absurd q4 q) _ (fun _ => (if_neg (by omega)).symm)
  · exact h th' tw' (fun _ => q3) (fun q => absurd q4 q) _ (fun _ => (if_pos (by omega)).symm)
  · exact h th' tw' (fun q => absurd q q4) (fun _ => q3) _ (fun q => absurd q q4)
theorem SR_store {post : Int → (Nat → Int → Int) → (Nat → Int) → Int → cnT → Int → Int → Int → Int → vsS → FcS → Int → Int → KS → Prop} (hn : mX45_names x0 = some (ra 1)) (hv : mX45_versions x0 = some (ra 2)) (hf : mX45_facets x0 = some (ra 7)) (hk : mX45_disk x0 = some (ra 11)) (he : mX45_ledger x0 = some e) (ke : kd e = 5) (ne : an e = 1200) (en : mX45_entries x0 = n) (h0 : 0 ≤ n ∧ n ≤ 1000) (hT : R57_T ≤ 400)
    (h : ∀ (th' ti' tk' T' : Int) al' c', (R57_T ≤ T' ∧ T' ≤ R57_T + 2) → hrL e (hsStore x R48_S R53_S R47_S R57_S (al e) n).2.2.1 al al' → c' x0 = (hsStore x R48_S R53_S R47_S R57_S (al e) n).2.2.2 → post (hsStore x R48_S R53_S R47_S R57_S (al e) n).1 al' c' th' R47_S ti' R48_u R48_b R48_d R48_S R53_S tk' T' (hsStore x R48_S R53_S R47_S R57_S (al e) n).2.1) : wpSR_X45_store MC MS post kd an al mX45_names mX45_versions mX45_facets mX45_disk mX45_ledger mX45_entries x0 x := by
  refine kOn_of hv ⟨rfl, ⟨by omega, by omega⟩, fun z1 _ => kOn_of hf ⟨rfl, ⟨by omega, by omega⟩, fun z2 => kOn_of hn ⟨rfl, ⟨by omega, by omega⟩, fun z3 => kOn_of hk ⟨by omega, rfl, ⟨by omega, by omega⟩, by omega, fun zp => ⟨fun z => ?_, fun z => ?_⟩⟩⟩⟩⟩
  · refine ⟨⟨by omega, by omega⟩, by omega, fun zc => ⟨fun y => ?_, fun y => ?_⟩⟩
    · have e3 : hsStore x R48_S R53_S R47_S R57_S (al e) n = ((kqPage 1 (-1) (hsSto R48_S R53_S R47_S) R57_S).1, (kdSy (kdCo (kqPage 1 (-1) (hsSto R48_S R53_S R47_S) R57_S).2 x).2).2, hsEnt 4 (kqPage 1 (-1) (hsSto R48_S R53_S R47_S) R57_S).1 x (al e) n, n + 1) := (if_neg (Int.not_lt.mpr z)).trans (if_neg (Int.not_lt.mpr y))
      rw [e3] at h
      exact ⟨⟨by omega, by omega⟩, fun _ => ⟨⟨by omega, by omega⟩, SR_enter he ke ne en h0 (fun al' c' L' ec => ⟨by omega, by omega, h _ _ _ _ al' c' (by omega) L' ec⟩)⟩⟩
    · have e3 : hsStore x R48_S R53_S R47_S R57_S (al e) n = ((kdCo (kqPage 1 (-1) (hsSto R48_S R53_S R47_S) R57_S).2 x).1, (kdCo (kqPage 1 (-1) (hsSto R48_S R53_S R47_S) R57_S).2 x).2, al e, n) := (if_neg (Int.not_lt.mpr z)).trans (if_pos (Int.not_le.mp y))
      rw [e3] at h
      exact ⟨by omega, by omega, h _ _ _ _ al mX45_entries (by omega) ⟨rfl, fun _ _ => rfl⟩ en⟩
  · have e3 : hsStore x R48_S R53_S R47_S R57_S (al e) n = ((kqPage 1 (-1) (hsSto R48_S R53_S R47_S) R57_S).1, (kqPage 1 (-1) (hsSto R48_S R53_S R47_S) R57_S).2, al e, n) := if_pos (Int.not_le.mp z)
    rw [e3] at h
    exact ⟨by omega, by omega, h _ _ _ _ al mX45_entries (by omega) ⟨rfl, fun _ _ => rfl⟩ en⟩
theorem SR_audL {K : Int → Int → Int → Int → Int → vsS → reT → Nat → Nat → Prop} (hv : mX45_versions x0 = some (ra 2)) (hr : mX45_rules x0 = some (ra 9)) :
    ∀ (m : Nat) (t n th : Int) (kc ks : Nat), t + m = 200 → 0 ≤ t → (0 ≤ n ∧ n ≤ t) → kc ≤ MC → ks ≤ MS →
    (∀ (th' : Int) (kc' ks' : Nat), kc' ≤ MC → ks' ≤ MS → K (hsAud R48_S R55_S m t n) th' R48_u R48_b R48_d R48_S R55_S kc' ks') →
    wSR_X45_audit_4 MC MS K x0 mX45_versions mX45_rules ra (m + 1) n t th R48_u R48_b R48_d R48_S R55_S kc ks := by
  intro m
  induction m with
  | zero =>
    intro t n th kc ks et h0 hn hC hS hK
    exact ⟨fun _ => hK th kc ks hC hS, fun z => absurd (by omega) z⟩
  | succ m ih =>
    intro t n th kc ks et h0 hn hC hS hK
    have on := hsOn_o R48_S t
    have go : ∀ (n' th' : Int) (kc' ks' : Nat), kc' ≤ MC → ks' ≤ MS → n' = (if (hsOn R48_S t = 0 ↔ ¬ rqHol (t / 4 % 5) (t / 20) (t % 4) R55_S = 1) then n else n + 1) → (0 ≤ n' ∧ n' ≤ t + 1) → wSR_X45_audit_4 MC MS K x0 mX45_versions mX45_rules ra (m + 1) n' (t + 1) th' R48_u R48_b R48_d R48_S R55_S kc' ks' := by
      intro n' th' kc' ks' c1 c2 en' hn'
      have e1 : hsAud R48_S R55_S (m + 1) t n = hsAud R48_S R55_S m (t + 1) n' := by rw [en']; rfl
      rw [e1] at hK
      exact ih (t + 1) n' _ _ _ (by omega) (by omega) hn' c1 c2 hK
    refine ⟨fun z => absurd z (by omega), fun _ => ⟨⟨by omega, by omega⟩, h0, by omega, ⟨by omega, by omega⟩, h0, ⟨by omega, by omega⟩, h0, kOn_of hr ⟨rfl, ⟨by omega, by omega⟩, fun _ => ⟨fun z => ⟨0, 0, ⟨by omega, by omega⟩, SR_isThere hv (fun th' => ⟨fun y => ⟨by omega, fun t' et' => ?_⟩, fun y => ⟨by omega, fun n' en => ⟨by omega, fun t' et' => ?_⟩⟩⟩)⟩, fun z => ⟨0, 0, ⟨by omega, by omega⟩, SR_isThere hv (fun th' => ⟨fun y => ⟨by omega, fun t' et' => ?_⟩, fun y => ⟨by omega, fun n' en => ⟨by omega, fun t' et' => ?_⟩⟩⟩)⟩⟩⟩⟩⟩
    · subst et'
      exact go _ _ _ _ (by omega) (by omega) (by rw [if_pos (by constructor <;> intro w <;> omega)]) (by omega)
    · subst en et'
      exact go _ _ _ _ (by omega) (by omega) (by rw [if_neg (by intro w; have := w.mp (by omega); omega)]) (by omega)
    · subst et'
      exact go _ _ _ _ (by omega) (by omega) (by rw [if_pos (by constructor <;> intro w <;> omega)]) (by omega)
    · subst en et'
      exact go _ _ _ _ (by omega) (by omega) (by rw [if_neg (by intro w; have := w.mpr z; omega)]) (by omega)
theorem SR_audit {post : Int → Int → Int → Int → Int → vsS → reT → Prop} (hv : mX45_versions x0 = some (ra 2)) (hr : mX45_rules x0 = some (ra 9))
    (h : ∀ th' : Int, post (hsAud R48_S R55_S 200 0 0) th' R48_u R48_b R48_d R48_S R55_S) : wpSR_X45_audit MC MS post mX45_versions mX45_rules x0 :=
  ⟨201, SR_audL hv hr 200 0 0 _ 0 0 (by decide) (by decide) (by omega) (by omega) (by omega) (fun th' kc' ks' h2 h3 => ⟨h2, h3, h th'⟩)⟩
theorem SR_entry {post : Int → Prop} (he : mX45_ledger x0 = some e) (ke : kd e = 5) (ne : an e = 1200) (en : mX45_entries x0 = n) (h : post (hsEntry a b (al e) n)) : wpSR_X45_entry post kd an al mX45_ledger mX45_entries x0 a b := by
  have bad : ¬ ((0 ≤ a ∧ a < 400 ∧ a < n) ∧ 0 ≤ b ∧ b < 3) → post (-1) := fun z => by
    have e1 : hsEntry a b (al e) n = -1 := if_neg z
    rw [e1] at h
    exact h
  unfold wpSR_X45_entry
  rw [en]
  refine ⟨fun z => bad (by omega), fun z1 => ⟨fun z => bad (by omega), fun z2 => ⟨fun z => bad (by omega), fun z3 => ⟨fun z => bad (by omega), fun z4 => ⟨fun z5 => ?_, fun z => bad (by omega)⟩⟩⟩⟩⟩
  have e1 : hsEntry a b (al e) n = al e (3 * a + b) := if_pos (by omega)
  rw [e1] at h
  exact kOn_of he ⟨ke, ⟨by omega, by rw [ne]; omega⟩, by omega, h⟩
end
