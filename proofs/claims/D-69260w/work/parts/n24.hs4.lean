/-! HS4: the house's own calls, component's side (printed by tools/hs4.py) -/
set_option maxRecDepth 100000
set_option maxHeartbeats 4000000
/-- how far RE's words reach after a triple was told -/
noncomputable def hsTu (t on l0 : Int) (E : reT) : Int := if on = 0 then l0 else rqUp (t / 4 % 5) (t / 20) (t % 4) l0 E
theorem hsTu_b {t on l0 : Int} (hl : 1 ≤ l0 ∧ l0 ≤ 510) (E : reT) : l0 ≤ hsTu t on l0 E ∧ hsTu t on l0 E ≤ 510 := by
  unfold hsTu
  split
  · omega
  · exact rqUp_b hl E
theorem hsTell_0 {t on : Int} {F : FcS} {E : reT} (e : on = 0) : hsTell t on F E = ((fsDrop F (Int32.ofInt (t / 20)) (Int32.ofInt (t / 4 % 5)) (Int32.ofInt (t % 4))).1.toInt, (fsDrop F (Int32.ofInt (t / 20)) (Int32.ofInt (t / 4 % 5)) (Int32.ofInt (t % 4))).2, (rqRemove (t / 4 % 5) (t / 20) (t % 4) E).2) := if_pos e
theorem hsTell_1 {t on : Int} {F : FcS} {E : reT} (e : ¬ on = 0) : hsTell t on F E = ((fsRow F (Int32.ofInt (t / 20)) (Int32.ofInt (t / 4 % 5)) (Int32.ofInt (t % 4))).1.toInt, (fsRow F (Int32.ofInt (t / 20)) (Int32.ofInt (t / 4 % 5)) (Int32.ofInt (t % 4))).2, (rqFact (t / 4 % 5) (t / 20) (t % 4) E).2) := if_neg e
theorem hsTu_0 {t on l0 : Int} {E : reT} (e : on = 0) : hsTu t on l0 E = l0 := if_pos e
theorem hsTu_1 {t on l0 : Int} {E : reT} (e : ¬ on = 0) : hsTu t on l0 E = rqUp (t / 4 % 5) (t / 20) (t % 4) l0 E := if_neg e
theorem hsEnt_1 {k a b n : Int} {L : Int → Int} (h : n < 400) : hsEnt k a b L n = updI (updI (updI L (3 * n) k) (3 * n + 1) a) (3 * n + 2) b := if_pos h
theorem hsEnt_0 {k a b n : Int} {L : Int → Int} (h : ¬ n < 400) : hsEnt k a b L n = L := if_neg h
/-- array e holds the ledger L', all else is as it was -/
def hsL (e : Nat) (L' : Int → Int) (ai ai' : Nat → Int → Int) : Prop := ai' e = L' ∧ (∀ q, q ≠ e → ai' q = ai q) ∧ ∀ j, zR (L' j)
section
variable {kd : Nat → Nat} {an : Nat → Nat} {ai : Nat → Int → Int} {al : Nat → Int → Int} {ar : Nat → Int → Option Nat} {mX0_roomNames : Nat → Option Nat} {mX0_calls : Nat → Option Nat} {mX0_names : Nat → Option Nat} {mX0_versions : Nat → Option Nat} {mX0_values : Nat → Option Nat} {mX0_proofs : Nat → Option Nat} {mX0_rights : Nat → Option Nat} {mX0_classes : Nat → Option Nat} {mX0_facets : Nat → Option Nat} {mX0_tables : Nat → Option Nat} {mX0_rules : Nat → Option Nat} {mX0_rewrite : Nat → Option Nat} {mX0_disk : Nat → Option Nat} {mX0_tape : Nat → Option Nat} {mX0_size : Nat → Int} {mX0_begins : Nat → Option Nat} {mX0_ends : Nat → Option Nat} {mX0_words : Nat → Int} {mX0_args : Nat → Option Nat} {mX0_answers : Nat → Option Nat} {mX0_threw : Nat → Option Nat} {mX0_done : Nat → Int} {mX0_wrong : Nat → Int} {mX0_entries : Nat → Option Nat} {mX0_entryCount : Nat → Int} {mX44_room : Nat → Int} {mX44_number : Nat → Int} {mX44_word : Nat → Option Nat} {mX44_kinds : Nat → Option Nat} {mJ1_modCount : Nat → Int} {mJ2_elementData : Nat → Option Nat} {mJ2_size : Nat → Int} {MC MS x0 e A : Nat} {t on p n k a b x v w r : Int}
theorem SH_tell {post : Int → FcS → Int → Int → Int → reT → Prop} (hf : mX0_facets x0 = some (ra 7)) (hr : mX0_rules x0 = some (ra 9)) (ht : 0 ≤ t) (hl : 1 ≤ RE_l0 ∧ RE_l0 ≤ 510) (hC : hsTu t on RE_l0 RE_S - RE_l0 ≤ MC) (hS : 2 * (hsTu t on RE_l0 RE_S - RE_l0) ≤ MS)
    (h : post (hsTell t on FC_S RE_S).1 (hsTell t on FC_S RE_S).2.1 (hsTu t on RE_l0 RE_S) RE_mb 0 (hsTell t on FC_S RE_S).2.2) : wpSH_X0_tell MC MS post mX0_facets mX0_rules x0 t on := by
  unfold wpSH_X0_tell wpSH_X0_thing wpSH_X0_head wpSH_X0_value cFC_row cFC_drop cRE_remove cRE_fact
  refine ⟨fun z => ?_, fun z => ?_⟩
  · rw [hsTell_0 z, hsTu_0 z] at h
    repeat' first
      | exact rfl
      | exact hs_w32 _
      | exact (hs_w32 _).1
      | exact Or.inr rfl
      | exact Or.inl rfl
      | exact h
      | contradiction
      | refine kOn_of hf ?_
      | refine kOn_of hr ?_
      | refine ⟨0, 0, ?_⟩
      | refine And.intro ?_ ?_
      | omega
      | rintro _ rfl
      | intro _
  · rw [hsTell_1 z, hsTu_1 z] at h
    rw [hsTu_1 z] at hC hS
    have hb := rqUp_b (x := t / 4 % 5) (a := t / 20) (b := t % 4) hl RE_S
    repeat' first
      | exact rfl
      | exact hs_w32 _
      | exact (hs_w32 _).1
      | exact Or.inr rfl
      | exact Or.inl rfl
      | exact h
      | contradiction
      | refine kOn_of hf ?_
      | refine kOn_of hr ?_
      | refine ⟨(rqUp (t / 4 % 5) (t / 20) (t % 4) RE_l0 RE_S - RE_l0).toNat, (2 * (rqUp (t / 4 % 5) (t / 20) (t % 4) RE_l0 RE_S - RE_l0)).toNat, ?_⟩
      | refine And.intro ?_ ?_
      | omega
      | rintro _ rfl
      | intro _
theorem SH_enter {post : (Nat → Int → Int) → (Nat → Int) → Prop} (he : mX0_entries x0 = some e) (ke : kd e = 4) (ne : an e = 1200) (en : mX0_entryCount x0 = n) (hn : 0 ≤ n ∧ n ≤ 1000) (hz : ∀ j, zR (ai e j)) (hk : zR k ∧ zR a ∧ zR b)
    (h : ∀ ai' c', hsL e (hsEnt k a b (ai e) n) ai ai' → c' x0 = n + 1 → post ai' c') : wpSH_X0_enter post kd an ai mX0_entries mX0_entryCount x0 k a b := by
  unfold wpSH_X0_enter
  rw [en]
  refine ⟨fun z => ⟨by omega, fun y ey c ec => ?_⟩, fun z => ?_⟩
  · subst ey ec
    exact h _ _ ⟨(hsEnt_0 (by omega)).symm, fun _ _ => rfl, fun j => by rw [hsEnt_0 (by omega)]; exact hz j⟩ (va_up_self _ _ _)
  · refine kOn_of he ⟨ke, ⟨by omega, by rw [ne]; omega⟩, by omega, fun a1 e1 => ⟨⟨by omega, by rw [ne]; omega⟩, by omega, fun a2 e2 => ⟨⟨by omega, by rw [ne]; omega⟩, by omega, fun a3 e3 => ⟨by omega, fun y ey c ec => ?_⟩⟩⟩⟩
    subst ey ec e1 e2 e3
    refine h _ _ ⟨?_, fun q hq => ?_, fun j => ?_⟩ (va_up_self _ _ _)
    · rw [hsEnt_1 (by omega), va_up_self, va_up_self, va_up_self]
    · rw [va_up_ne _ _ hq, va_up_ne _ _ hq, va_up_ne _ _ hq]
    · rw [hsEnt_1 (by omega)]
      unfold updI
      split
      · exact hk.2.2
      · split
        · exact hk.2.1
        · split
          · exact hk.1
          · exact hz j
theorem hsSay_b {p t on n : Int} {V : vsS} {D : rdT} {F : FcS} {E : reT} {L : Int → Int} (h : t < 0 ∨ 200 ≤ t) : hsSay p t on V D F E L n = (0, -1, V, F, E, L, n) := if_pos h
theorem hsSay_2 {p t on n : Int} {V : vsS} {D : rdT} {F : FcS} {E : reT} {L : Int → Int} (h : ¬ (t < 0 ∨ 200 ≤ t)) (h2 : ¬ rdqMay p (t / 50) (t / 4 % 5) (t % 4) (hsSv V) 0 D = 1) : hsSay p t on V D F E L n = (0, -2, V, F, E, L, n) := (if_neg h).trans (if_pos h2)
section
variable {p t on n : Int} {V : vsS} {D : rdT} {F : FcS} {E : reT} {L : Int → Int}
theorem hsSay_4 (h : ¬ (t < 0 ∨ 200 ≤ t)) (h2 : rdqMay p (t / 50) (t / 4 % 5) (t % 4) (hsSv V) 0 D = 1) (h3 : (vsBegin V).1 = 0) (h4 : ¬ (vsPut (vsBegin V).2.1 t on (vsBegin V).2.2).2.1 = 1) :
    hsSay p t on V D F E L n = (0, -4, (vsAbort (vsBegin V).2.1 (vsPut (vsBegin V).2.1 t on (vsBegin V).2.2).2.2).2.2, F, E, L, n) := (if_neg h).trans ((if_neg (fun w => w h2)).trans ((if_neg (fun w => w h3)).trans (if_pos h4)))
theorem hsSay_5 (h : ¬ (t < 0 ∨ 200 ≤ t)) (h2 : rdqMay p (t / 50) (t / 4 % 5) (t % 4) (hsSv V) 0 D = 1) (h3 : (vsBegin V).1 = 0) (h4 : (vsPut (vsBegin V).2.1 t on (vsBegin V).2.2).2.1 = 1) (h5 : (vsCommit (vsBegin V).2.1 (vsPut (vsBegin V).2.1 t on (vsBegin V).2.2).2.2).1 = 0) (h6 : (vsCommit (vsBegin V).2.1 (vsPut (vsBegin V).2.1 t on (vsBegin V).2.2).2.2).2.1 ≤ vsLatest V) :
    hsSay p t on V D F E L n = (0, (vsCommit (vsBegin V).2.1 (vsPut (vsBegin V).2.1 t on (vsBegin V).2.2).2.2).2.1, (vsCommit (vsBegin V).2.1 (vsPut (vsBegin V).2.1 t on (vsBegin V).2.2).2.2).2.2, F, E, L, n) :=
  (if_neg h).trans ((if_neg (fun w => w h2)).trans ((if_neg (fun w => w h3)).trans ((if_neg (fun w => w h4)).trans ((if_neg (fun w => w h5)).trans (if_pos h6)))))
theorem hsSay_6 (h : ¬ (t < 0 ∨ 200 ≤ t)) (h2 : rdqMay p (t / 50) (t / 4 % 5) (t % 4) (hsSv V) 0 D = 1) (h3 : (vsBegin V).1 = 0) (h4 : (vsPut (vsBegin V).2.1 t on (vsBegin V).2.2).2.1 = 1) (h5 : (vsCommit (vsBegin V).2.1 (vsPut (vsBegin V).2.1 t on (vsBegin V).2.2).2.2).1 = 0) (h6 : ¬ (vsCommit (vsBegin V).2.1 (vsPut (vsBegin V).2.1 t on (vsBegin V).2.2).2.2).2.1 ≤ vsLatest V) :
    hsSay p t on V D F E L n = (0, (vsCommit (vsBegin V).2.1 (vsPut (vsBegin V).2.1 t on (vsBegin V).2.2).2.2).2.1, (vsCommit (vsBegin V).2.1 (vsPut (vsBegin V).2.1 t on (vsBegin V).2.2).2.2).2.2, (hsTell t on F E).2.1, (hsTell t on F E).2.2, hsEnt 0 t (vsCommit (vsBegin V).2.1 (vsPut (vsBegin V).2.1 t on (vsBegin V).2.2).2.2).2.1 L n, n + 1) :=
  (if_neg h).trans ((if_neg (fun w => w h2)).trans ((if_neg (fun w => w h3)).trans ((if_neg (fun w => w h4)).trans ((if_neg (fun w => w h5)).trans (if_neg h6)))))
end
theorem SH_say {post : Int → (Nat → Int → Int) → (Nat → Int) → Int → Int → Int → vsS → Int → rdT → FcS → Int → Int → Int → reT → Prop} {px : Nat → (Nat → Int → Int) → (Nat → Int) → Int → Int → Int → vsS → Int → rdT → FcS → Int → Int → Int → reT → Prop} (hv : mX0_versions x0 = some (ra 2)) (hg : mX0_rights x0 = some (ra 5)) (hf : mX0_facets x0 = some (ra 7)) (hr : mX0_rules x0 = some (ra 9)) (he : mX0_entries x0 = some e) (ke : kd e = 4) (ne : an e = 1200) (en : mX0_entryCount x0 = n) (h0 : 0 ≤ n ∧ n ≤ 1000) (hz : ∀ j, zR (ai e j))
    (hh : VT_u ≤ 198 ∧ VT_b ≤ 58 ∧ VT_d ≤ 60) (hl : 1 ≤ RE_l0 ∧ RE_l0 ≤ 510) (hon : on = 0 ∨ on = 1) (hM : 1600 ≤ MC ∧ 18000 ≤ MS)
    (h : ∀ (u' b' d' l1 kz' : Int) ai' c', (VT_u ≤ u' ∧ u' ≤ VT_u + 2) → (VT_b ≤ b' ∧ b' ≤ VT_b + 1) → (VT_d ≤ d' ∧ d' ≤ VT_d + 1) → (1 ≤ l1 ∧ l1 ≤ 510) → hsL e (hsSay p t on VT_S RD_S FC_S RE_S (ai e) n).2.2.2.2.2.1 ai ai' → c' x0 = (hsSay p t on VT_S RD_S FC_S RE_S (ai e) n).2.2.2.2.2.2 → (hsSay p t on VT_S RD_S FC_S RE_S (ai e) n).1 = 0 → zR (hsSay p t on VT_S RD_S FC_S RE_S (ai e) n).2.1 →
      post (hsSay p t on VT_S RD_S FC_S RE_S (ai e) n).2.1 ai' c' u' b' d' (hsSay p t on VT_S RD_S FC_S RE_S (ai e) n).2.2.1 RD_T RD_S (hsSay p t on VT_S RD_S FC_S RE_S (ai e) n).2.2.2.1 l1 RE_mb kz' (hsSay p t on VT_S RD_S FC_S RE_S (ai e) n).2.2.2.2.1) : wpSH_X0_say MC MS post px kd an ai mX0_versions mX0_rights mX0_facets mX0_rules mX0_entries mX0_entryCount x0 p t on := by
  have bad : (t < 0 ∨ 200 ≤ t) → 0 ≤ MC ∧ 0 ≤ MS ∧ post (-1) ai mX0_entryCount VT_u VT_b VT_d VT_S RD_T RD_S FC_S RE_l0 RE_mb RE_kz RE_S := fun z => by
    rw [hsSay_b z] at h
    exact ⟨by omega, by omega, h _ _ _ _ _ _ _ (by omega) (by omega) (by omega) hl ⟨rfl, fun _ _ => rfl, hz⟩ en rfl (by omega)⟩
  refine ⟨fun z => bad (by omega), fun z1 => ⟨fun z2 => ?_, fun z => bad (by omega)⟩⟩
  have nt : ¬ (t < 0 ∨ 200 ≤ t) := by omega
  have go : vsF VT_S → ∀ y : Int, y = hsSv VT_S → wSH_X0_say_53 MC MS post px x0 t on (vsLatest VT_S) (mX0_rights x0) p (t / 50) (t / 4 % 5) (t % 4) y kd an ai mX0_versions mX0_facets mX0_rules mX0_entries mX0_entryCount VT_u VT_b VT_d VT_S RD_T RD_S FC_S RE_l0 RE_mb RE_kz RE_S ra 0 0 := by
    intro hV y ey
    subst ey
    have hS := hsV_say (on := on) hV ⟨by omega, z2⟩
    refine kOn_of hg ⟨rfl, 1, 5, ⟨by omega, by omega⟩, by omega, by omega, fun _ => ⟨fun m => ?_, fun m => ?_⟩⟩
    · refine ⟨300, 5000, ⟨by omega, by omega⟩, kOn_of hv ⟨rfl, 300, 5000, ⟨by omega, by omega⟩, ⟨by omega, by omega⟩, hh.2.1, fun _ _ V1 => ⟨by omega, by omega, ?_⟩, fun w => absurd hS.1 w⟩⟩
      refine ⟨fun _ => kOn_of hv ⟨rfl, 300, 5000, ⟨by omega, by omega⟩, ⟨by omega, by omega⟩, by omega, hon, fun _ _ V2 => ⟨fun q => ?_, fun q => ?_⟩, fun w => absurd hS.2.2.1 w⟩, fun w => absurd hS.2.1 w⟩
      · have hC := hS.2.2.2.2 q
        refine ⟨300, 5000, ⟨by omega, by omega⟩, ⟨by omega, by omega⟩, by omega, hh.2.2, fun c0 z3 V3 => ⟨fun y => ?_, fun y => ?_⟩, fun w => absurd hC.1 w⟩
        · rw [hsSay_5 nt m hS.1 q c0 y] at h
          exact ⟨by omega, by omega, h _ _ _ _ _ _ _ (by omega) (by omega) (by omega) hl ⟨rfl, fun _ _ => rfl, hz⟩ en rfl (by first | assumption | omega)⟩
        · rw [hsSay_6 nt m hS.1 q c0 y] at h
          have hb := hsTu_b (t := t) (on := on) hl RE_S
          refine ⟨520, 1040, ⟨by omega, by omega⟩, SH_tell hf hr (by omega) hl (by omega) (by omega) ⟨⟨by omega, by omega⟩, SH_enter he ke ne en h0 hz (by omega) (fun ai' c' L' ec => ⟨by omega, by omega, h _ _ _ _ _ ai' c' (by omega) (by omega) (by omega) (by omega) L' ec rfl z3⟩)⟩⟩
      · have hA := hS.2.2.2.1 q
        rw [hsSay_4 nt m hS.1 q] at h
        exact ⟨300, 5000, ⟨by omega, by omega⟩, ⟨by omega, by omega⟩, by omega, fun _ _ V3 => ⟨by omega, by omega, h _ _ _ _ _ _ _ (by omega) (by omega) (by omega) hl ⟨rfl, fun _ _ => rfl, hz⟩ en rfl (by first | assumption | omega)⟩, fun w => absurd hA w⟩
    · rw [hsSay_2 nt m] at h
      exact ⟨by omega, by omega, h _ _ _ _ _ _ _ (by omega) (by omega) (by omega) hl ⟨rfl, fun _ _ => rfl, hz⟩ en rfl (by omega)⟩
  refine kOn_of hv ⟨rfl, ⟨by omega, by omega⟩, fun _ hV => ⟨by omega, ⟨by omega, by omega⟩, by omega, by omega, ⟨by omega, by omega⟩, by omega, fun y => go hV _ (if_pos y).symm, fun y => go hV _ (if_neg y).symm⟩⟩
theorem SH_levelL {K : Int → Int → Int → Int → vsS → FcS → Int → Int → Int → reT → Nat → Nat → Prop} (hv : mX0_versions x0 = some (ra 2)) (hf : mX0_facets x0 = some (ra 7)) (hr : mX0_rules x0 = some (ra 9)) :
    ∀ (m : Nat) (t n l0 kz : Int) (F : FcS) (E : reT) (kc ks : Nat), t + m = 200 → 0 ≤ t → (0 ≤ n ∧ n ≤ t) → (1 ≤ l0 ∧ l0 ≤ 510) → kc + (510 - l0) ≤ MC → ks + 2 * (510 - l0) ≤ MS →
    (∀ (l1 kz' : Int) (kc' ks' : Nat), (1 ≤ l1 ∧ l1 ≤ 510) → kc' + (510 - l1) ≤ MC → ks' + 2 * (510 - l1) ≤ MS → (0 ≤ (hsLev VT_S m t n F E).1 ∧ (hsLev VT_S m t n F E).1 ≤ 200) → K (hsLev VT_S m t n F E).1 VT_u VT_b VT_d VT_S (hsLev VT_S m t n F E).2.1 l1 RE_mb kz' (hsLev VT_S m t n F E).2.2 kc' ks') →
    wSH_X0_level_4 MC MS K x0 mX0_versions mX0_facets mX0_rules ra (m + 1) n t VT_u VT_b VT_d VT_S F l0 RE_mb kz E kc ks := by
  intro m
  induction m with
  | zero =>
    intro t n l0 kz F E kc ks et h0 hn hl hC hS hK
    exact ⟨fun _ => hK l0 kz kc ks hl hC hS (by show 0 ≤ n ∧ n ≤ 200; omega), fun z => absurd (by omega) z⟩
  | succ m ih =>
    intro t n l0 kz F E kc ks et h0 hn hl hC hS hK
    refine ⟨fun z => absurd z (by omega), fun _ => kOn_of hv ⟨rfl, ⟨⟨by omega, by omega⟩, fun _ hV => ⟨0, 0, ⟨by omega, by omega⟩, hsV_told hV ⟨h0, by omega⟩, fun _ _ => ?_⟩⟩⟩⟩
    have hb := hsTu_b (t := t) (on := hsOn VT_S t) hl E
    have ih' := fun n' q1 q2 => ih (t + 1) n' (hsTu t (hsOn VT_S t) l0 E) 0 (hsTell t (hsOn VT_S t) F E).2.1 (hsTell t (hsOn VT_S t) F E).2.2 (kc + 0 + (hsTu t (hsOn VT_S t) l0 E - l0).toNat) (ks + 0 + (2 * (hsTu t (hsOn VT_S t) l0 E - l0)).toNat) (by omega) (by omega) q1 (by omega) (by omega) (by omega) q2
    refine ⟨(hsTu t (hsOn VT_S t) l0 E - l0).toNat, (2 * (hsTu t (hsOn VT_S t) l0 E - l0)).toNat, ⟨by omega, by omega⟩, SH_tell hf hr h0 hl (by show hsTu t (hsOn VT_S t) l0 E - l0 ≤ _; omega) (by show 2 * (hsTu t (hsOn VT_S t) l0 E - l0) ≤ _; omega) ⟨fun z => ⟨by omega, fun n' en => ⟨by omega, fun t' et' => ?_⟩⟩, fun z => ⟨by omega, fun n' en => ⟨by omega, fun t' et' => ?_⟩⟩⟩⟩
    · subst en et'
      refine ih' _ (by omega) ?_
      have e1 : hsLev VT_S (m + 1) t n F E = hsLev VT_S m (t + 1) (n + 1) (hsTell t (hsOn VT_S t) F E).2.1 (hsTell t (hsOn VT_S t) F E).2.2 := by
        show hsLev VT_S m (t + 1) (if (hsTell t (hsOn VT_S t) F E).1 = 1 then n + 1 else n) _ _ = _
        rw [if_pos z]
      rw [e1] at hK
      exact hK
    · subst en et'
      refine ih' _ (by omega) ?_
      have e1 : hsLev VT_S (m + 1) t n F E = hsLev VT_S m (t + 1) (n + 0) (hsTell t (hsOn VT_S t) F E).2.1 (hsTell t (hsOn VT_S t) F E).2.2 := by
        show hsLev VT_S m (t + 1) (if (hsTell t (hsOn VT_S t) F E).1 = 1 then n + 1 else n) _ _ = _
        rw [if_neg z, Int.add_zero]
      rw [e1] at hK
      exact hK
theorem SH_level {post : Int → Int → Int → Int → vsS → FcS → Int → Int → Int → reT → Prop} (hv : mX0_versions x0 = some (ra 2)) (hf : mX0_facets x0 = some (ra 7)) (hr : mX0_rules x0 = some (ra 9)) (hl : 1 ≤ RE_l0 ∧ RE_l0 ≤ 510) (hM : 600 ≤ MC ∧ 1200 ≤ MS)
    (h : ∀ l1 kz' : Int, (1 ≤ l1 ∧ l1 ≤ 510) → zR (hsLev VT_S 200 0 0 FC_S RE_S).1 → post (hsLev VT_S 200 0 0 FC_S RE_S).1 VT_u VT_b VT_d VT_S (hsLev VT_S 200 0 0 FC_S RE_S).2.1 l1 RE_mb kz' (hsLev VT_S 200 0 0 FC_S RE_S).2.2) : wpSH_X0_level MC MS post mX0_versions mX0_facets mX0_rules x0 := by
  refine ⟨201, ?_⟩
  exact SH_levelL hv hf hr 200 0 0 RE_l0 RE_kz FC_S RE_S 0 0 (by decide) (by decide) (by omega) hl (by omega) (by omega) (fun l1 kz' kc' ks' h1 h2 h3 h4 => ⟨by omega, by omega, h l1 kz' h1 (by omega)⟩)
theorem SH_pub4 {K : cnT → Nat → Nat → Prop} {kc ks : Nat} (hn : mX0_names x0 = some (ra 1)) (hM : kc ≤ MC ∧ ks ≤ MS) (h : K (hsB4 CN_S) kc ks) : wSH_X0_publish_16 MC MS K x0 mX0_names ra 5 0 CN_S kc ks := by
  refine ⟨fun z => absurd z (by decide), fun _ => kOn_of hn ⟨rfl, hM, fun _ => ⟨by decide, fun y ey => ?_⟩⟩⟩
  subst ey
  refine ⟨fun z => absurd z (by decide), fun _ => kOn_of hn ⟨rfl, hM, fun _ => ⟨by decide, fun y ey => ?_⟩⟩⟩
  subst ey
  refine ⟨fun z => absurd z (by decide), fun _ => kOn_of hn ⟨rfl, hM, fun _ => ⟨by decide, fun y ey => ?_⟩⟩⟩
  subst ey
  refine ⟨fun z => absurd z (by decide), fun _ => kOn_of hn ⟨rfl, hM, fun _ => ⟨by decide, fun y ey => ?_⟩⟩⟩
  subst ey
  exact ⟨fun _ => h, fun z => absurd (by decide) z⟩
theorem SH_pubL {K : cnT → Int → Int → Int → vsS → Nat → Nat → Prop} (hn : mX0_names x0 = some (ra 1)) (hv : mX0_versions x0 = some (ra 2)) :
    ∀ (m : Nat) (t : Int) (N : cnT) (kc ks : Nat), t + m = 200 → 0 ≤ t → kc ≤ MC → ks ≤ MS → (∀ kc' ks' : Nat, kc' = kc → ks' = ks → K (hsPub VT_S m t N) VT_u VT_b VT_d VT_S kc' ks') →
    wSH_X0_publish_37 MC MS K x0 mX0_names mX0_versions ra (m + 1) t N VT_u VT_b VT_d VT_S kc ks := by
  intro m
  induction m with
  | zero =>
    intro t N kc ks et h0 hC hS hK
    exact ⟨fun _ => hK kc ks rfl rfl, fun z => absurd (by omega) z⟩
  | succ m ih =>
    intro t N kc ks et h0 hC hS hK
    refine ⟨fun z => absurd z (by omega), fun _ => kOn_of hv ⟨rfl, ⟨⟨by omega, by omega⟩, fun _ hV => ⟨0, 0, ⟨by omega, by omega⟩, hsV_told hV ⟨h0, by omega⟩, fun _ _ => ⟨fun z => ⟨by omega, fun t' et' => ?_⟩, fun z => ?_⟩⟩⟩⟩⟩
    · subst et'
      have e1 : hsPub VT_S (m + 1) t N = hsPub VT_S m (t + 1) N := by
        show hsPub VT_S m (t + 1) (if hsOn VT_S t = 0 then N else _) = _
        rw [if_pos z]
      rw [e1] at hK
      exact ih (t + 1) N _ _ (by omega) (by omega) (by omega) (by omega) (fun kc' ks' e1 e2 => hK kc' ks' (by omega) (by omega))
    · refine ⟨⟨by omega, by omega⟩, h0, fun g => ?_, fun g => ?_⟩
      · have e1 : hsPub VT_S (m + 1) t N = hsPub VT_S m (t + 1) (cnqTriple (5 - t / 20, 100 + t / 4 % 5, 200 + t % 4) N).2 := by
          show hsPub VT_S m (t + 1) (if hsOn VT_S t = 0 then N else (cnqTriple (if 6 ≤ t / 20 then 5 - t / 20 else t / 20 + 1, 100 + t / 4 % 5, 200 + t % 4) N).2) = _
          rw [if_neg z, if_pos g]
        rw [e1] at hK
        refine ⟨⟨by omega, by omega⟩, h0, ⟨by omega, by omega⟩, ⟨h0, by omega, ⟨by omega, by omega⟩, ⟨h0, kOn_of hn ⟨by omega, by omega, by omega, rfl, ⟨by omega, by omega⟩, fun _ => ⟨by omega, fun t' et' => ?_⟩⟩⟩⟩⟩
        subst et'
        exact ih (t + 1) _ _ _ (by omega) (by omega) (by omega) (by omega) (fun kc' ks' e1 e2 => hK kc' ks' (by omega) (by omega))
      · have e1 : hsPub VT_S (m + 1) t N = hsPub VT_S m (t + 1) (cnqTriple (t / 20 + 1, 100 + t / 4 % 5, 200 + t % 4) N).2 := by
          show hsPub VT_S m (t + 1) (if hsOn VT_S t = 0 then N else (cnqTriple (if 6 ≤ t / 20 then 5 - t / 20 else t / 20 + 1, 100 + t / 4 % 5, 200 + t % 4) N).2) = _
          rw [if_neg z, if_neg g]
        rw [e1] at hK
        refine ⟨⟨by omega, by omega⟩, h0, ⟨by omega, by omega⟩, ⟨h0, by omega, ⟨by omega, by omega⟩, ⟨h0, kOn_of hn ⟨by omega, by omega, by omega, rfl, ⟨by omega, by omega⟩, fun _ => ⟨by omega, fun t' et' => ?_⟩⟩⟩⟩⟩
        subst et'
        exact ih (t + 1) _ _ _ (by omega) (by omega) (by omega) (by omega) (fun kc' ks' e1 e2 => hK kc' ks' (by omega) (by omega))
theorem SH_publish {post : Int → (Nat → Int → Int) → (Nat → Int) → cnT → Int → Int → Int → vsS → Prop} (hn : mX0_names x0 = some (ra 1)) (hv : mX0_versions x0 = some (ra 2)) (he : mX0_entries x0 = some e) (ke : kd e = 4) (ne : an e = 1200) (en : mX0_entryCount x0 = n) (h0 : 0 ≤ n ∧ n ≤ 1000) (hz : ∀ j, zR (ai e j)) (hM : 100 ≤ MC ∧ 100 ≤ MS)
    (h : ∀ ai' c', hsL e (hsPublish VT_S CN_S (ai e) n).2.2.1 ai ai' → c' x0 = (hsPublish VT_S CN_S (ai e) n).2.2.2 → zR (hsPublish VT_S CN_S (ai e) n).1 → post (hsPublish VT_S CN_S (ai e) n).1 ai' c' (hsPublish VT_S CN_S (ai e) n).2.1 VT_u VT_b VT_d VT_S) : wpSH_X0_publish MC MS post kd an ai mX0_names mX0_versions mX0_entries mX0_entryCount x0 := by
  refine kOn_of hn ⟨rfl, 2, 43, ⟨by omega, by omega⟩, by omega, by omega, fun zk => ⟨fun z => ⟨5, SH_pub4 hn ⟨by omega, by omega⟩ ⟨201, ?_⟩⟩, fun z => ?_⟩⟩
  · refine SH_pubL hn hv 200 0 _ _ _ (by decide) (by decide) (by omega) (by omega) (fun kc' ks' e1 e2 => kOn_of hn ⟨rfl, ⟨by omega, by omega⟩, fun zn => ⟨⟨by omega, by omega⟩, ?_⟩⟩)
    refine SH_enter he ke ne en h0 hz ⟨by omega, zk, zn⟩ (fun ai' c' L' ec => ⟨⟨by omega, by omega⟩, fun zi => ⟨by omega, by omega, ?_⟩⟩)
    have e3 : hsPublish VT_S CN_S (ai e) n = (cnqIso (cnqKeep CN_S).1 (cnqName 5000 (hsPub VT_S 200 0 (hsB4 (cnqKeep CN_S).2))).2, (cnqName 5000 (hsPub VT_S 200 0 (hsB4 (cnqKeep CN_S).2))).2, hsEnt 1 (cnqKeep CN_S).1 (cnqName 5000 (hsPub VT_S 200 0 (hsB4 (cnqKeep CN_S).2))).1 (ai e) n, n + 1) := if_neg (by omega)
    rw [e3] at h
    exact h ai' c' L' ec zi
  · have e3 : hsPublish VT_S CN_S (ai e) n = (-1, (cnqKeep CN_S).2, ai e, n) := if_pos (by omega)
    rw [e3] at h
    exact ⟨by omega, by omega, h ai mX0_entryCount ⟨rfl, fun _ _ => rfl, hz⟩ en (by decide)⟩
theorem SH_under {post : Int → (Nat → Int → Int) → (Nat → Int) → Int → ctT → FcS → qrT → Prop} (hc : mX0_classes x0 = some (ra 6)) (hf : mX0_facets x0 = some (ra 7)) (hq : mX0_rewrite x0 = some (ra 10)) (he : mX0_entries x0 = some e) (ke : kd e = 4) (ne : an e = 1200) (en : mX0_entryCount x0 = n) (h0 : 0 ≤ n ∧ n ≤ 1000) (hz : ∀ j, zR (ai e j)) (ha : zR a) (hb : zR b) (hM : 100 ≤ MC ∧ 300 ≤ MS)
    (h : ∀ ai' c', hsL e (hsUnder a b CS_S FC_S QR_S (ai e) n).2.2.2.2.1 ai ai' → c' x0 = (hsUnder a b CS_S FC_S QR_S (ai e) n).2.2.2.2.2 → zR (hsUnder a b CS_S FC_S QR_S (ai e) n).1 → post (hsUnder a b CS_S FC_S QR_S (ai e) n).1 ai' c' CS_u (hsUnder a b CS_S FC_S QR_S (ai e) n).2.1 (hsUnder a b CS_S FC_S QR_S (ai e) n).2.2.1 (hsUnder a b CS_S FC_S QR_S (ai e) n).2.2.2.1) : wpSH_X0_under MC MS post kd an ai mX0_classes mX0_facets mX0_rewrite mX0_entries mX0_entryCount x0 a b := by
  refine kOn_of hc ⟨rfl, 3, 103, ⟨by omega, by omega⟩, ⟨by omega, by omega⟩, fun F _ => ⟨fun z => ?_, fun z => ?_⟩⟩
  · have e3 : hsUnder a b CS_S FC_S QR_S (ai e) n = ((ctAxiom a (-1) b CS_S).1, (ctAxiom a (-1) b CS_S).2, (fsAbove FC_S (Int32.ofInt a) (Int32.ofInt b)).2, (qqAxiom 0 a b QR_S).2, hsEnt 2 a b (ai e) n, n + 1) := if_neg (by omega)
    rw [e3] at h
    refine kOn_of hf ⟨rfl, ⟨by omega, by omega⟩, fun _ => kOn_of hq ⟨rfl, 5, 111, ⟨by omega, by omega⟩, by omega, by omega, ha, hb, fun _ => ⟨⟨by omega, by omega⟩, ?_⟩⟩⟩
    exact SH_enter he ke ne en h0 hz (by omega) (fun ai' c' L' ec => ⟨by omega, by omega, h ai' c' L' ec F⟩)
  · have e3 : hsUnder a b CS_S FC_S QR_S (ai e) n = ((ctAxiom a (-1) b CS_S).1, (ctAxiom a (-1) b CS_S).2, FC_S, QR_S, ai e, n) := if_pos (by omega)
    rw [e3] at h
    exact ⟨by omega, by omega, h ai mX0_entryCount ⟨rfl, fun _ _ => rfl, hz⟩ en F⟩
theorem SH_is {post : Int → (Nat → Int → Int) → (Nat → Int) → Int → ctT → FcS → qrT → Prop} (hc : mX0_classes x0 = some (ra 6)) (hf : mX0_facets x0 = some (ra 7)) (hq : mX0_rewrite x0 = some (ra 10)) (he : mX0_entries x0 = some e) (ke : kd e = 4) (ne : an e = 1200) (en : mX0_entryCount x0 = n) (h0 : 0 ≤ n ∧ n ≤ 1000) (hz : ∀ j, zR (ai e j)) (ha : zR a) (hb : zR b) (hM : 100 ≤ MC ∧ 300 ≤ MS)
    (h : ∀ ai' c', hsL e (hsIs a b CS_S FC_S QR_S (ai e) n).2.2.2.2.1 ai ai' → c' x0 = (hsIs a b CS_S FC_S QR_S (ai e) n).2.2.2.2.2 → zR (hsIs a b CS_S FC_S QR_S (ai e) n).1 → post (hsIs a b CS_S FC_S QR_S (ai e) n).1 ai' c' CS_u (hsIs a b CS_S FC_S QR_S (ai e) n).2.1 (hsIs a b CS_S FC_S QR_S (ai e) n).2.2.1 (hsIs a b CS_S FC_S QR_S (ai e) n).2.2.2.1) : wpSH_X0_is MC MS post kd an ai mX0_classes mX0_facets mX0_rewrite mX0_entries mX0_entryCount x0 a b := by
  refine kOn_of hc ⟨rfl, ⟨by omega, by omega⟩, fun F _ => ⟨fun z => ?_, fun z => ?_⟩⟩
  · have e3 : hsIs a b CS_S FC_S QR_S (ai e) n = ((ctPut a b CS_S).1, (ctPut a b CS_S).2, (fsRow FC_S (Int32.ofInt a) (Int32.ofInt 0) (Int32.ofInt b)).2, (qqFact 0 b a 0 QR_S).2, if (ctPut a b CS_S).1 = 1 then hsEnt 3 a b (ai e) n else ai e, if (ctPut a b CS_S).1 = 1 then n + 1 else n) := if_neg (by omega)
    rw [e3] at h
    refine kOn_of hq ⟨rfl, ⟨by omega, by omega⟩, fun _ => kOn_of hf ⟨rfl, ⟨by omega, by omega⟩, fun _ => ⟨fun y => ?_, fun y => ?_⟩⟩⟩
    · rw [if_pos y, if_pos y] at h
      exact ⟨⟨by omega, by omega⟩, SH_enter he ke ne en h0 hz (by omega) (fun ai' c' L' ec => ⟨by omega, by omega, h ai' c' L' ec F⟩)⟩
    · rw [if_neg y, if_neg y] at h
      exact ⟨by omega, by omega, h ai mX0_entryCount ⟨rfl, fun _ _ => rfl, hz⟩ en F⟩
  · have e3 : hsIs a b CS_S FC_S QR_S (ai e) n = ((ctPut a b CS_S).1, (ctPut a b CS_S).2, FC_S, QR_S, ai e, n) := if_pos (by omega)
    rw [e3] at h
    exact ⟨by omega, by omega, h ai mX0_entryCount ⟨rfl, fun _ _ => rfl, hz⟩ en F⟩
theorem SH_ordI {K : Int → Int → ctT → Int → Int → Int → reT → Nat → Nat → Prop} (hc : mX0_classes x0 = some (ra 6)) (hr : mX0_rules x0 = some (ra 9)) (hF : ctF CS_S) :
    ∀ (m : Nat) (i b n l0 kz : Int) (E : reT) (kc ks : Nat), 20 ≤ i + m → 0 ≤ i → i ≤ 30 → b = ctParent a i CS_S → (0 ≤ n ∧ n + m ≤ 2000) → (1 ≤ l0 ∧ l0 ≤ 510) → kc + (510 - l0) ≤ MC → ks + 2 * (510 - l0) ≤ MS →
    (∀ (l1 kz' : Int) (kc' ks' : Nat), (1 ≤ l1 ∧ l1 ≤ 510) → kc' + (510 - l1) ≤ MC → ks' + 2 * (510 - l1) ≤ MS → (0 ≤ (hsOrI CS_S a m i b n E).1 ∧ (hsOrI CS_S a m i b n E).1 ≤ n + m) → K (hsOrI CS_S a m i b n E).1 CS_u CS_S l1 RE_mb kz' (hsOrI CS_S a m i b n E).2 kc' ks') →
    wSH_X0_order_37 MC MS K x0 a mX0_classes mX0_rules ra (m + 1) n i b CS_u CS_S l0 RE_mb kz E kc ks := by
  intro m
  induction m with
  | zero =>
    intro i b n l0 kz E kc ks hi h0 h3 eb hn hl hC hS hK
    have := hsC_par (a := a) hF (i := i) (by omega)
    exact ⟨fun _ => hK l0 kz kc ks hl hC hS ⟨hn.1, by show n ≤ n + (0 : Nat); omega⟩, fun z => absurd (by omega) z⟩
  | succ m ih =>
    intro i b n l0 kz E kc ks hi h0 h3 eb hn hl hC hS hK
    refine ⟨fun z => ?_, fun z => ?_⟩
    · have e1 : hsOrI CS_S a (m + 1) i b n E = (n, E) := if_pos z
      rw [e1] at hK
      exact hK l0 kz kc ks hl hC hS ⟨hn.1, by show n ≤ n + (m + 1 : Nat); omega⟩
    · have hi2 : i < 20 := by
        rcases Int.lt_or_le i 20 with q | q
        · exact q
        · have := hsC_par (a := a) hF (i := i) q
          omega
      have hb := rqUp_b (x := 15) (a := a) (b := b) hl E
      refine kOn_of hr ⟨rfl, (rqUp 15 a b l0 E - l0).toNat, (2 * (rqUp 15 a b l0 E - l0)).toNat, ⟨by omega, by omega⟩, by omega, by omega, fun _ => ⟨fun y => ⟨by omega, fun n' en => ⟨by omega, fun i' ei => ?_⟩⟩, fun y => ⟨by omega, fun n' en => ⟨by omega, fun i' ei => ?_⟩⟩⟩⟩
      · subst en ei
        have e1 : hsOrI CS_S a (m + 1) i b n E = hsOrI CS_S a m (i + 1) (ctParent a (i + 1) CS_S) (n + 1) (rqFact 15 a b E).2 := by
          refine (if_neg z).trans ?_
          rw [if_pos y]
        rw [e1] at hK
        exact kOn_of hc ⟨rfl, ⟨by omega, by omega⟩, by omega, fun _ _ => ih (i + 1) _ (n + 1) _ _ _ _ _ (by omega) (by omega) (by omega) rfl (by omega) (by omega) (by omega) (by omega) (fun l1 kz' kc' ks' q1 q2 q3 q4 => hK l1 kz' kc' ks' q1 q2 q3 ⟨q4.1, by have := q4.2; omega⟩)⟩
      · subst en ei
        have e1 : hsOrI CS_S a (m + 1) i b n E = hsOrI CS_S a m (i + 1) (ctParent a (i + 1) CS_S) (n + 0) (rqFact 15 a b E).2 := by
          refine (if_neg z).trans ?_
          rw [if_neg y, Int.add_zero]
        rw [e1] at hK
        exact kOn_of hc ⟨rfl, ⟨by omega, by omega⟩, by omega, fun _ _ => ih (i + 1) _ (n + 0) _ _ _ _ _ (by omega) (by omega) (by omega) rfl (by omega) (by omega) (by omega) (by omega) (fun l1 kz' kc' ks' q1 q2 q3 q4 => hK l1 kz' kc' ks' q1 q2 q3 ⟨q4.1, by have := q4.2; omega⟩)⟩
theorem SH_ordO {K : Int → Int → ctT → Int → Int → Int → reT → Nat → Nat → Prop} (hc : mX0_classes x0 = some (ra 6)) (hr : mX0_rules x0 = some (ra 9)) (hF : ctF CS_S) :
    ∀ (m : Nat) (a n l0 kz : Int) (E : reT) (kc ks : Nat), 20 ≤ a + m → 0 ≤ a → a ≤ 30 → (0 ≤ n ∧ n + 30 * m ≤ 1000) → (1 ≤ l0 ∧ l0 ≤ 510) → kc + (510 - l0) ≤ MC → ks + 2 * (510 - l0) ≤ MS →
    (∀ (l1 kz' : Int) (kc' ks' : Nat), (1 ≤ l1 ∧ l1 ≤ 510) → kc' + (510 - l1) ≤ MC → ks' + 2 * (510 - l1) ≤ MS → (0 ≤ (hsOrO CS_S m a n E).1 ∧ (hsOrO CS_S m a n E).1 ≤ 1000) → K (hsOrO CS_S m a n E).1 CS_u CS_S l1 RE_mb kz' (hsOrO CS_S m a n E).2 kc' ks') →
    wSH_X0_order_12 MC MS K x0 mX0_classes mX0_rules ra (m + 1) n a CS_u CS_S l0 RE_mb kz E kc ks := by
  have hcn := hsC_cnt hF
  intro m
  induction m with
  | zero =>
    intro a n l0 kz E kc ks hi h0 h3 hn hl hC hS hK
    exact kOn_of hc ⟨rfl, ⟨by omega, by omega⟩, fun _ _ => ⟨fun _ => hK l0 kz kc ks hl hC hS (by show 0 ≤ n ∧ n ≤ 1000; omega), fun z => absurd (by omega) z⟩⟩
  | succ m ih =>
    intro a n l0 kz E kc ks hi h0 h3 hn hl hC hS hK
    refine kOn_of hc ⟨rfl, ⟨by omega, by omega⟩, fun _ _ => ⟨fun z => ?_, fun z => ⟨⟨by omega, by omega⟩, by omega, fun _ _ => ⟨31, ?_⟩⟩⟩⟩
    · have e1 : hsOrO CS_S (m + 1) a n E = (n, E) := if_pos z
      rw [e1] at hK
      exact hK l0 kz kc ks hl hC hS (by show 0 ≤ n ∧ n ≤ 1000; omega)
    · have e1 : hsOrO CS_S (m + 1) a n E = hsOrO CS_S m (a + 1) (hsOrI CS_S a 30 0 (ctParent a 0 CS_S) n E).1 (hsOrI CS_S a 30 0 (ctParent a 0 CS_S) n E).2 := if_neg z
      rw [e1] at hK
      refine SH_ordI hc hr hF 30 0 _ n l0 kz E kc ks (by decide) (by decide) (by decide) rfl (by omega) hl hC hS (fun l1 kz' kc' ks' q1 q2 q3 q4 => ⟨by omega, fun a' ea => ?_⟩)
      subst ea
      exact ih (a + 1) _ l1 kz' _ kc' ks' (by omega) (by omega) (by omega) (by omega) q1 q2 q3 hK
theorem SH_order {post : Int → Int → ctT → Int → Int → Int → reT → Prop} (hc : mX0_classes x0 = some (ra 6)) (hr : mX0_rules x0 = some (ra 9)) (hu : CS_u ≤ 500000) (hl : 1 ≤ RE_l0 ∧ RE_l0 ≤ 510) (hM : 600 ≤ MC ∧ 1200 ≤ MS)
    (h : ∀ l1 kz' : Int, (1 ≤ l1 ∧ l1 ≤ 510) → zR (hsOrO (ctRun CS_S).2 30 0 0 RE_S).1 → post (hsOrO (ctRun CS_S).2 30 0 0 RE_S).1 (CS_u + 860) (ctRun CS_S).2 l1 RE_mb kz' (hsOrO (ctRun CS_S).2 30 0 0 RE_S).2) : wpSH_X0_order MC MS post mX0_classes mX0_rules x0 :=
  kOn_of hc ⟨rfl, ⟨by omega, by omega⟩, hu, fun _ F => ⟨31, SH_ordO hc hr F 30 0 0 RE_l0 RE_kz RE_S 0 0 (by decide) (by decide) (by decide) (by decide) hl (by omega) (by omega) (fun l1 kz' kc' ks' q1 q2 q3 q4 => ⟨by omega, by omega, h l1 kz' q1 (by omega)⟩)⟩⟩
theorem hsTd {y : Int} (h : zR y) : zR (Int.tdiv y 12) := by
  have h1 := Int.tdiv_le_self (a := y) 12
  rcases Int.le_total 0 y with q | q
  · have := Int.tdiv_nonneg q (show (0 : Int) ≤ 12 by decide)
    have := Int.tdiv_le_self_of_nonneg_of_nonneg q (show (0 : Int) ≤ 12 by decide)
    omega
  · have e : Int.tdiv y 12 = -(Int.tdiv (-y) 12) := by rw [Int.neg_tdiv]; omega
    have a1 := Int.tdiv_nonneg (show 0 ≤ -y by omega) (show (0 : Int) ≤ 12 by decide)
    rw [Int.tdiv_eq_ediv_of_nonneg (show 0 ≤ -y by omega)] at e
    omega
theorem SH_tak {post : Int → vrS → qrT → Prop} {px : Nat → vrS → qrT → Prop} {K : Int → vrS → qrT → Nat → Nat → Prop} (ht : mX0_tables x0 = some (ra 8)) (hq : mX0_rewrite x0 = some (ra 10)) {N : Int} :
    ∀ (m : Nat) (i n : Int) (Q : qrT) (kc ks : Nat), (N ≤ i + m ∧ (m = 0 ∨ i + m = N)) → 0 ≤ i → (0 ≤ n ∧ n + m ≤ 1000) → kc + 2 * m ≤ MC → ks + 12 * m ≤ MS →
    (∀ kc' ks' : Nat, kc' ≤ MC → ks' ≤ MS → (hsTak VR_S v w r m i n Q).1 = 0 → (0 ≤ (hsTak VR_S v w r m i n Q).2.1 ∧ (hsTak VR_S v w r m i n Q).2.1 ≤ 1000) → K (hsTak VR_S v w r m i n Q).2.1 VR_S (hsTak VR_S v w r m i n Q).2.2 kc' ks') → (¬ (hsTak VR_S v w r m i n Q).1 = 0 → px (hsTak VR_S v w r m i n Q).1 VR_S (hsTak VR_S v w r m i n Q).2.2) →
    wSH_X0_take_38 MC MS post px K x0 v w r N mX0_tables mX0_rewrite ra (m + 1) n i VR_S Q kc ks := by
  intro m
  induction m with
  | zero =>
    intro i n Q kc ks hi h0 hn hC hS hK hx
    exact ⟨fun _ => hK kc ks (by omega) (by omega) rfl (by show 0 ≤ n ∧ n ≤ 1000; omega), fun z => absurd (by omega) z⟩
  | succ m ih =>
    intro i n Q kc ks hi h0 hn hC hS hK hx
    refine ⟨fun z => absurd z (by omega), fun _ => kOn_of ht ⟨rfl, 1, 6, ⟨by omega, by omega⟩, ⟨by omega, by omega⟩, fun v0 z1 => ?_, fun v0 => ?_⟩⟩
    · refine ⟨hsTd z1, 1, 6, ⟨by omega, by omega⟩, ⟨by omega, by omega⟩, fun w0 z2 => ?_, fun w0 => ?_⟩
      · refine ⟨hsTd z2, kOn_of hq ⟨rfl, ⟨by omega, by omega⟩, fun _ => ⟨fun y => ⟨by omega, fun n' en => ⟨by omega, fun i' ei => ?_⟩⟩, fun y => ⟨by omega, fun n' en => ⟨by omega, fun i' ei => ?_⟩⟩⟩⟩⟩
        · subst en ei
          have e1 : hsTak VR_S v w r (m + 1) i n Q = hsTak VR_S v w r m (i + 1) (n + 1) (qqFact 1 r (Int.tmod (vrValue i v VR_S).2 12) (Int.tmod (vrValue i w VR_S).2 12) Q).2 := by
            refine (if_neg (fun q => q v0)).trans ((if_neg (fun q => q w0)).trans ?_)
            rw [if_pos y]
          rw [e1] at hK hx
          exact ih (i + 1) (n + 1) _ _ _ (by omega) (by omega) (by omega) (by omega) (by omega) hK hx
        · subst en ei
          have e1 : hsTak VR_S v w r (m + 1) i n Q = hsTak VR_S v w r m (i + 1) (n + 0) (qqFact 1 r (Int.tmod (vrValue i v VR_S).2 12) (Int.tmod (vrValue i w VR_S).2 12) Q).2 := by
            refine (if_neg (fun q => q v0)).trans ((if_neg (fun q => q w0)).trans ?_)
            rw [if_neg y, Int.add_zero]
          rw [e1] at hK hx
          exact ih (i + 1) (n + 0) _ _ _ (by omega) (by omega) (by omega) (by omega) (by omega) hK hx
      · have e1 : hsTak VR_S v w r (m + 1) i n Q = ((vrValue i w VR_S).1, -1, Q) := (if_neg (fun q => q v0)).trans (if_pos w0)
        rw [e1] at hx
        exact hx w0
    · have e1 : hsTak VR_S v w r (m + 1) i n Q = ((vrValue i v VR_S).1, -1, Q) := if_pos v0
      rw [e1] at hx
      exact hx v0
theorem SH_take {post : Int → vrS → qrT → Prop} {px : Nat → vrS → qrT → Prop} (ht : mX0_tables x0 = some (ra 8)) (hq : mX0_rewrite x0 = some (ra 10)) (hM : 1000 ≤ MC ∧ 5000 ≤ MS)
    (h : (hsTake v w r VR_S QR_S).1 = 0 → zR (hsTake v w r VR_S QR_S).2.1 → post (hsTake v w r VR_S QR_S).2.1 (hsTake v w r VR_S QR_S).2.2.1 (hsTake v w r VR_S QR_S).2.2.2) (hx : ¬ (hsTake v w r VR_S QR_S).1 = 0 → px (hsTake v w r VR_S QR_S).1 (hsTake v w r VR_S QR_S).2.2.1 (hsTake v w r VR_S QR_S).2.2.2) : wpSH_X0_take MC MS post px mX0_tables mX0_rewrite x0 v w r := by
  have bad : (v < 0 ∨ 6 ≤ v ∨ w < 0 ∨ 6 ≤ w) → 0 ≤ MC ∧ 0 ≤ MS ∧ post (-2) VR_S QR_S := fun z => by
    have e1 : hsTake v w r VR_S QR_S = (0, -2, VR_S, QR_S) := if_pos z
    rw [e1] at h
    exact ⟨by omega, by omega, h rfl (by decide)⟩
  refine ⟨fun z => bad (by omega), fun z1 => ⟨fun z => bad (by omega), fun z2 => ⟨fun z => bad (by omega), fun z3 => ⟨fun z4 => ?_, fun z => bad (by omega)⟩⟩⟩⟩
  have hr := hsT_run VR_S
  have e1 : hsTake v w r VR_S QR_S = ((hsTak (vrRun VR_S).2 v w r (vrRun VR_S).1.toNat 0 0 QR_S).1, if (vrRun VR_S).1 < 0 then (vrRun VR_S).1 else (hsTak (vrRun VR_S).2 v w r (vrRun VR_S).1.toNat 0 0 QR_S).2.1, (vrRun VR_S).2, (hsTak (vrRun VR_S).2 v w r (vrRun VR_S).1.toNat 0 0 QR_S).2.2) := if_neg (by omega)
  rw [e1] at h hx
  refine kOn_of ht ⟨rfl, ⟨by omega, by omega⟩, fun zr => ⟨(vrRun VR_S).1.toNat + 1, SH_tak ht hq (vrRun VR_S).1.toNat 0 0 QR_S 0 0 (by omega) (by decide) (by omega) (by omega) (by omega) (fun kc' ks' q1 q2 q3 q4 => ⟨fun y => ⟨q1, q2, ?_⟩, fun y => ⟨q1, q2, ?_⟩⟩) (fun q => hx q)⟩⟩
  · have h' := h q3
    rw [if_neg (by omega)] at h'
    exact h' (by omega)
  · have h' := h q3
    rw [if_pos (by omega)] at h'
    exact h' zr
theorem SH_store {post : Int → (Nat → Int → Int) → (Nat → Int) → cnT → Int → Int → Int → vsS → FcS → Int → KS → Prop} (hn : mX0_names x0 = some (ra 1)) (hv : mX0_versions x0 = some (ra 2)) (hf : mX0_facets x0 = some (ra 7)) (hk : mX0_disk x0 = some (ra 11)) (he : mX0_entries x0 = some e) (ke : kd e = 4) (ne : an e = 1200) (en : mX0_entryCount x0 = n) (h0 : 0 ≤ n ∧ n ≤ 1000) (hz : ∀ j, zR (ai e j)) (hT : 0 ≤ KD_T ∧ KD_T ≤ 200) (hx : zR x) (hM : 600 ≤ MC ∧ 35000 ≤ MS)
    (h : ∀ T' ai' c', (KD_T ≤ T' ∧ T' ≤ KD_T + 2) → hsL e (hsStore x VT_S FC_S CN_S KD_S (ai e) n).2.2.1 ai ai' → c' x0 = (hsStore x VT_S FC_S CN_S KD_S (ai e) n).2.2.2 → zR (hsStore x VT_S FC_S CN_S KD_S (ai e) n).1 → post (hsStore x VT_S FC_S CN_S KD_S (ai e) n).1 ai' c' CN_S VT_u VT_b VT_d VT_S FC_S T' (hsStore x VT_S FC_S CN_S KD_S (ai e) n).2.1) : wpSH_X0_store MC MS post kd an ai mX0_names mX0_versions mX0_facets mX0_disk mX0_entries mX0_entryCount x0 x := by
  refine kOn_of hv ⟨rfl, ⟨by omega, by omega⟩, fun z1 _ => kOn_of hf ⟨rfl, ⟨by omega, by omega⟩, fun z2 => kOn_of hn ⟨rfl, ⟨by omega, by omega⟩, fun z3 => kOn_of hk ⟨by omega, rfl, 11, 119, ⟨by omega, by omega⟩, ⟨by omega, by omega⟩, by omega, fun zp => ⟨fun z => ?_, fun z => ?_⟩⟩⟩⟩⟩
  · refine ⟨240, 33000, ⟨by omega, by omega⟩, ⟨by omega, by omega⟩, by omega, fun zc => ⟨fun y => ?_, fun y => ?_⟩⟩
    · have e3 : hsStore x VT_S FC_S CN_S KD_S (ai e) n = ((kqPage 1 (-1) (hsSto VT_S FC_S CN_S) KD_S).1, (kdSy (kdCo (kqPage 1 (-1) (hsSto VT_S FC_S CN_S) KD_S).2 x).2).2, hsEnt 4 (kqPage 1 (-1) (hsSto VT_S FC_S CN_S) KD_S).1 x (ai e) n, n + 1) := (if_neg (Int.not_lt.mpr z)).trans (if_neg (Int.not_lt.mpr y))
      rw [e3] at h
      exact ⟨⟨by omega, by omega⟩, fun _ => ⟨⟨by omega, by omega⟩, SH_enter he ke ne en h0 hz (by omega) (fun ai' c' L' ec => ⟨by omega, by omega, h _ ai' c' (by omega) L' ec zp⟩)⟩⟩
    · have e3 : hsStore x VT_S FC_S CN_S KD_S (ai e) n = ((kdCo (kqPage 1 (-1) (hsSto VT_S FC_S CN_S) KD_S).2 x).1, (kdCo (kqPage 1 (-1) (hsSto VT_S FC_S CN_S) KD_S).2 x).2, ai e, n) := (if_neg (Int.not_lt.mpr z)).trans (if_pos (Int.not_le.mp y))
      rw [e3] at h
      exact ⟨by omega, by omega, h _ ai mX0_entryCount (by omega) ⟨rfl, fun _ _ => rfl, hz⟩ en zc⟩
  · have e3 : hsStore x VT_S FC_S CN_S KD_S (ai e) n = ((kqPage 1 (-1) (hsSto VT_S FC_S CN_S) KD_S).1, (kqPage 1 (-1) (hsSto VT_S FC_S CN_S) KD_S).2, ai e, n) := if_pos (Int.not_le.mp z)
    rw [e3] at h
    exact ⟨by omega, by omega, h _ ai mX0_entryCount (by omega) ⟨rfl, fun _ _ => rfl, hz⟩ en zp⟩
theorem SH_audL {K : Int → Int → Int → Int → vsS → Int → Int → Int → reT → Nat → Nat → Prop} (hv : mX0_versions x0 = some (ra 2)) (hr : mX0_rules x0 = some (ra 9)) :
    ∀ (m : Nat) (t n kz : Int) (kc ks : Nat), t + m = 200 → 0 ≤ t → (0 ≤ n ∧ n ≤ t) → (kz = 0 → kc + 2550 ≤ MC ∧ ks + 5100 ≤ MS) → kc ≤ MC → ks ≤ MS →
    (∀ (kz' : Int) (kc' ks' : Nat), kc' ≤ MC → ks' ≤ MS → (0 ≤ hsAud VT_S RE_S m t n ∧ hsAud VT_S RE_S m t n ≤ 200) → K (hsAud VT_S RE_S m t n) VT_u VT_b VT_d VT_S RE_l0 RE_mb kz' RE_S kc' ks') →
    wSH_X0_audit_4 MC MS K x0 mX0_versions mX0_rules ra (m + 1) n t VT_u VT_b VT_d VT_S RE_l0 RE_mb kz RE_S kc ks := by
  intro m
  induction m with
  | zero =>
    intro t n kz kc ks et h0 hn hz hC hS hK
    exact ⟨fun _ => hK kz kc ks hC hS (by show 0 ≤ n ∧ n ≤ 200; omega), fun z => absurd (by omega) z⟩
  | succ m ih =>
    intro t n kz kc ks et h0 hn hz hC hS hK
    have fc : reFc (t / 4 % 5) (t / 20) (t % 4) := by unfold reFc; omega
    have on := hsOn_o VT_S t
    obtain ⟨mc, ms, hm, hm2⟩ : ∃ mc ms : Nat, (kc + 0 + mc ≤ MC ∧ ks + 0 + ms ≤ MS) ∧ (kz = 0 → 2550 ≤ mc) ∧ (kz = 0 → 5100 ≤ ms) := by
      by_cases q : kz = 0
      · exact ⟨2550, 5100, by have := hz q; omega, fun _ => Nat.le_refl _, fun _ => Nat.le_refl _⟩
      · exact ⟨0, 0, by omega, fun w => absurd w q, fun w => absurd w q⟩
    have kz1 : pif (reFc (t / 4 % 5) (t / 20) (t % 4)) 1 kz = (1 : Int) := pif_t fc
    have go : ∀ n', n' = (if (hsOn VT_S t = 0 ↔ ¬ rqHol (t / 4 % 5) (t / 20) (t % 4) RE_S = 1) then n else n + 1) → (0 ≤ n' ∧ n' ≤ t + 1) → wSH_X0_audit_4 MC MS K x0 mX0_versions mX0_rules ra (m + 1) n' (t + 1) VT_u VT_b VT_d VT_S RE_l0 RE_mb (pif (reFc (t / 4 % 5) (t / 20) (t % 4)) 1 kz) RE_S (kc + 0 + mc) (ks + 0 + ms) := by
      intro n' en' hn'
      have e1 : hsAud VT_S RE_S (m + 1) t n = hsAud VT_S RE_S m (t + 1) n' := by rw [en']; rfl
      rw [e1] at hK
      rw [kz1]
      exact ih (t + 1) n' 1 _ _ (by omega) (by omega) hn' (fun w => absurd w (by decide)) (by omega) (by omega) hK
    refine ⟨fun z => absurd z (by omega), fun _ => kOn_of hv ⟨rfl, ⟨⟨by omega, by omega⟩, fun _ hV => ⟨0, 0, ⟨by omega, by omega⟩, hsV_told hV ⟨h0, by omega⟩, fun _ _ => ⟨⟨by omega, by omega⟩, h0, by omega, ⟨by omega, by omega⟩, h0, ⟨by omega, by omega⟩, h0, kOn_of hr ⟨rfl, mc, ms, hm, hm2.1, hm2.2, fun _ => ?_⟩⟩⟩⟩⟩⟩
    have o1 : (vsTold (vsLatest VT_S) t VT_S).2 = hsOn VT_S t := rfl
    rw [o1]
    refine ⟨fun z => ⟨fun y => ⟨by omega, fun n' en => ⟨by omega, fun t' et' => ?_⟩⟩, fun y => ⟨by omega, fun n' en => ⟨by omega, fun t' et' => ?_⟩⟩⟩, fun z => ⟨fun y => ⟨by omega, fun n' en => ⟨by omega, fun t' et' => ?_⟩⟩, fun y => ⟨by omega, fun n' en => ⟨by omega, fun t' et' => ?_⟩⟩⟩⟩
    · subst en et'
      exact go _ (by rw [if_pos (by constructor <;> intro w <;> omega)]; omega) (by omega)
    · subst en et'
      exact go _ (by rw [if_neg (by intro w; have := w.mp (by omega); omega)]) (by omega)
    · subst en et'
      exact go _ (by rw [if_pos (by constructor <;> intro w <;> omega)]; omega) (by omega)
    · subst en et'
      exact go _ (by rw [if_neg (by intro w; have := w.mpr z; omega)]) (by omega)
theorem SH_audit {post : Int → Int → Int → Int → vsS → Int → Int → Int → reT → Prop} (hv : mX0_versions x0 = some (ra 2)) (hr : mX0_rules x0 = some (ra 9)) (hM : 2600 ≤ MC ∧ 5200 ≤ MS)
    (h : ∀ kz' : Int, zR (hsAud VT_S RE_S 200 0 0) → post (hsAud VT_S RE_S 200 0 0) VT_u VT_b VT_d VT_S RE_l0 RE_mb kz' RE_S) : wpSH_X0_audit MC MS post mX0_versions mX0_rules x0 := by
  refine ⟨201, ?_⟩
  exact SH_audL hv hr 200 0 0 RE_kz 0 0 (by decide) (by decide) (by omega) (fun _ => by omega) (by omega) (by omega) (fun kz' kc' ks' h2 h3 h4 => ⟨h2, h3, h kz' (by omega)⟩)
theorem SH_entry {post : Int → Prop} (he : mX0_entries x0 = some e) (ke : kd e = 4) (ne : an e = 1200) (en : mX0_entryCount x0 = n) (hz : ∀ j, zR (ai e j)) (h : zR (hsEntry a b (ai e) n) → post (hsEntry a b (ai e) n)) : wpSH_X0_entry post kd an ai mX0_entries mX0_entryCount x0 a b := by
  have bad : ¬ ((0 ≤ a ∧ a < 400 ∧ a < n) ∧ 0 ≤ b ∧ b < 3) → wSH_X0_entry_33 post x0 a b 0 kd an ai mX0_entries := fun z => by
    have e1 : hsEntry a b (ai e) n = -1 := if_neg z
    rw [e1] at h
    exact ⟨fun _ => h (by decide), fun z => absurd rfl z⟩
  unfold wpSH_X0_entry
  rw [en]
  refine ⟨fun z => bad (by omega), fun z1 => ⟨fun z => bad (by omega), fun z2 => ⟨fun z => bad (by omega), fun z3 => ⟨fun z => bad (by omega), fun z4 => ⟨fun z => bad (by omega), fun z5 => ⟨fun z => absurd z (by decide), fun _ => ?_⟩⟩⟩⟩⟩⟩
  have e1 : hsEntry a b (ai e) n = ai e (3 * a + b) := if_pos (by omega)
  rw [e1] at h
  exact kOn_of he ⟨ke, ⟨by omega, by rw [ne]; omega⟩, by omega, h (hz _)⟩
end
