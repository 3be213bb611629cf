/-! KnowDisk, the component: its constructor -/
/-- all is empty, before begin -/
def kdI0 : KS := KS.mk (fun _ => 0) (fun _ => 0) (fun _ => 0) (fun _ => 0) (fun _ => 0) (fun _ => 0) (fun _ => 0) (fun _ => 0) (fun _ => 0) (fun _ => 0) (fun _ => 0) 1 0 0 0 0 0 (-1) 0 0
section
variable {kd : Nat → Nat} {an : Nat → Nat} {ai : Nat → Int → Int} {al : Nat → Int → Int} {ar : Nat → Int → Option Nat} {mX42_disk : Nat → Option Nat} {mX42_count : Nat → Int} {mX42_runs : Nat → Int} {mX42_isFull : Nat → Int} {mX42_places : Nat → Option Nat} {mX42_laid : Nat → Option Nat} {mX42_changed : Nat → Int} {mX42_waiting : Nat → Option Nat} {mX42_states : Nat → Option Nat} {mX42_kept : Nat → Option Nat} {mX43_number : Nat → Int} {mX43_sectors : Nat → Int} {mX63_bytes : Nat → Option Nat} {mX64_to : Nat → Int} {mX64_sector : Nat → Option Nat} {mJ1_modCount : Nat → Int} {mJ2_elementData : Nat → Option Nat} {mJ2_size : Nat → Int} {mJ5_elements : Nat → Option Nat} {mJ5_head : Nat → Int} {mJ5_tail : Nat → Int} {mJ22_cursor : Nat → Int} {mJ22_remaining : Nat → Int} {mJ22_lastRet : Nat → Int} {mJ22_this_0 : Nat → Option Nat} {mJ23_cursor : Nat → Int} {mJ23_lastRet : Nat → Int} {mJ23_expectedModCount : Nat → Int} {mJ23_this_0 : Nat → Option Nat} {sa : Nat → Nat} {d e q x l dq pq lq d1 e1 d2 e2 e3 s b : Nat} {cap hd n i c1 h1 c2 h2 : Int} {el f ls lb ws wb w1 w2 w3 w : Int → Nat} {MC MS kc ks' : Nat} {A B : Prop} {dk op lt ld pl tg by' nu se ku ks : Int → Int} {fi be ol nw kn k p v ru fu ch lo : Int} {fn : Int → Int} {P : Nat → Prop} {kd' an' : Nat → Nat} {ai' : Nat → Int → Int} {ar' : Nat → Int → Option Nat} {mB' mS' mE' : Nat → Option Nat} {mO' mN' mU' mH' mT' : Nat → Int} {S : KS} {a to fr nr nn ss keep tear mask what : Int} {src op' ld' : Int → Int} {e' sp wq : Nat} {Q Qr Qd : Nat → Prop}
theorem CKD_init {post : (Nat → Nat) → (Nat → Nat) → (Nat → Int → Int) → (Nat → Int → Option Nat) → (Nat → Option Nat) → (Nat → Int) → (Nat → Int) → (Nat → Option Nat) → (Nat → Option Nat) → (Nat → Int) → (Nat → Option Nat) → (Nat → Option Nat) → (Nat → Option Nat) → (Nat → Int) → (Nat → Int) → (Nat → Int) → (Nat → Option Nat) → (Nat → Int) → (Nat → Option Nat) → (Nat → Int) → (Nat → Int) → Prop} (hM : 20 ≤ MC ∧ 1800 ≤ MS) (kx : kd x = 1) (hf : mX42_isFull x = 0) (hc : mX42_changed x = 0) (H : ∀ kd' an' ai' ar' D' C' R' P' L' G' W' St' Kp' mN' mU' M' Ed' Z' E' H' T', kdOK (kd') (an') (ai') al (ar') (D') (C') (R') mX42_isFull (P') (L') (G') (W') (St') (Kp') (mN') (mU') mX63_bytes mX64_to mX64_sector (M') (Ed') (Z') (E') (H') (T') mJ22_cursor mJ22_remaining mJ22_lastRet mJ22_this_0 mJ23_cursor mJ23_lastRet mJ23_expectedModCount mJ23_this_0 sa x (kdBg kdI0 0 0) → post kd' an' ai' ar' D' C' R' P' L' G' W' St' Kp' mN' mU' M' Ed' Z' E' H' T') : wpKD_X42_init MC MS post kd an ai ar mX42_disk mX42_count mX42_runs mX42_places mX42_laid mX42_changed mX42_waiting mX42_states mX42_kept mX43_number mX43_sectors mJ1_modCount mJ2_elementData mJ2_size mJ5_elements mJ5_head mJ5_tail sa x 40 := by
  unfold wpKD_X42_init
  intro R eR
  refine ⟨by omega, fun q2 hq2 ai1 ea1 P eP => ⟨by omega, fun q6 hq6 ar1 ear1 Ld eLd => ⟨by omega, fun q11 hq11 E1 eE1 H1 eH1 T1 eT1 => ⟨1, 17, by omega, ?_⟩⟩⟩⟩
  unfold wpKD_J5_init wpKD_J0_init
  refine ⟨by omega, by omega, fun e1 he1 ar2 ear2 E2 eE2 => ⟨by omega, by omega, fun _ W eW => ⟨by omega, fun q29 hq29 E3 eE3 H3 eH3 T3 eT3 => ⟨1, 17, by omega, by omega, by omega, fun e2 he2 ar3 ear3 E4 eE4 => ⟨by omega, by omega, fun _ St eSt => ⟨by omega, fun q49 hq49 M eM Ed eEd Z eZ => ⟨by omega, ?_⟩⟩⟩⟩⟩⟩⟩
  unfold wpKD_J2_init wpKD_J1_init wpKD_J0_init
  intro M2 eM2 Ed2 eEd2 Kp eKp
  refine ⟨by omega, ?_⟩
  unfold wpKD_J6_floorMod
  refine ⟨by decide, by decide, fun r er => ⟨fun _ => ?_, fun z => absurd (by decide) z⟩⟩
  have er' : r = 40 := er.trans (by decide)
  refine ⟨by omega, fun v ev Cn eCn => ?_⟩
  have eCx : Cn x = 48 := by rw [eCn, va_up_self, ev, er']; rfl
  rw [eCx]
  refine ⟨by decide, fun n72 en => ?_⟩
  have en' : n72 = 1536 := en
  have et : n72.toNat = 1536 := by rw [en']; rfl
  rw [et]
  refine ⟨⟨by omega, by have : componentBytes .byte = 1 := rfl; rw [this]; omega⟩, by omega, fun q73 hq73 an3 ean3 ks3 eks3 ai3 eai3 Dk eDk => ⟨by omega, fun q86 hq86 mN eN mU eU => ⟨by omega, ?_⟩⟩⟩
  unfold wpKD_X43_init wpKD_J7_init
  intro mN2 eN2 mU2 eU2
  -- kinds
  generalize hk1 : va_up kd q2 9 = k1 at *
  generalize ha1 : va_up an q2 30 = a1 at *
  have l1 : kLe kd an k1 a1 := by rw [← hk1, ← ha1]; exact kLe_new hq2 (fun a ha => va_up_ne _ _ ha)
  generalize hk2 : va_up k1 q6 12 = k2 at *
  generalize ha2 : va_up a1 q6 64 = a2 at *
  have l2 : kLe k1 a1 k2 a2 := by rw [← hk2, ← ha2]; exact kLe_new hq6 (fun a ha => va_up_ne _ _ ha)
  generalize hk3 : va_up k2 q11 6 = k3 at *
  have l3 : kLe k2 a2 k3 a2 := by rw [← hk3]; exact kLe_new hq11 (fun a _ => rfl)
  generalize hk4 : va_up k3 e1 13 = k4 at *
  generalize ha4 : va_up a2 e1 17 = a4 at *
  have l4 : kLe k3 a2 k4 a4 := by rw [← hk4, ← ha4]; exact kLe_new he1 (fun a ha => va_up_ne _ _ ha)
  generalize hk5 : va_up k4 q29 6 = k5 at *
  have l5 : kLe k4 a4 k5 a4 := by rw [← hk5]; exact kLe_new hq29 (fun a _ => rfl)
  generalize hk6 : va_up k5 e2 13 = k6 at *
  generalize ha6 : va_up a4 e2 17 = a6 at *
  have l6 : kLe k5 a4 k6 a6 := by rw [← hk6, ← ha6]; exact kLe_new he2 (fun a ha => va_up_ne _ _ ha)
  generalize hk7 : va_up k6 q49 5 = k7 at *
  have l7 : kLe k6 a6 k7 a6 := by rw [← hk7]; exact kLe_new hq49 (fun a _ => rfl)
  generalize hk8 : va_up k7 q73 10 = k8 at *
  have l8 : kLe k7 a6 k8 an3 := by rw [← hk8, ean3]; exact kLe_new hq73 (fun a ha => va_up_ne _ _ ha)
  generalize hk9 : va_up k8 q86 2 = k9 at *
  have l9 : kLe k8 an3 k9 an3 := by rw [← hk9]; exact kLe_new hq86 (fun a _ => rfl)
  have t8 := kLe_tr l8 l9
  have t7 := kLe_tr l7 t8
  have t6 := kLe_tr l6 t7
  have t5 := kLe_tr l5 t6
  have t4 := kLe_tr l4 t5
  have t3 := kLe_tr l3 t4
  have t2 := kLe_tr l2 t3
  have t1 := kLe_tr l1 t2
  have s1 : k1 q2 = 9 := by rw [← hk1]; exact va_up_self _ _ _
  have s2 : k2 q6 = 12 := by rw [← hk2]; exact va_up_self _ _ _
  have s3 : k3 q11 = 6 := by rw [← hk3]; exact va_up_self _ _ _
  have s4 : k4 e1 = 13 := by rw [← hk4]; exact va_up_self _ _ _
  have s5 : k5 q29 = 6 := by rw [← hk5]; exact va_up_self _ _ _
  have s6 : k6 e2 = 13 := by rw [← hk6]; exact va_up_self _ _ _
  have s7 : k7 q49 = 5 := by rw [← hk7]; exact va_up_self _ _ _
  have s8 : k8 q73 = 10 := by rw [← hk8]; exact va_up_self _ _ _
  have s9 : k9 q86 = 2 := by rw [← hk9]; exact va_up_self _ _ _
  have fx : k9 x = 1 := (t1 x (by omega)).1.trans kx
  have f1 : k9 q2 = 9 ∧ an3 q2 = 30 := ⟨(t2 q2 (by omega)).1.trans s1, (t2 q2 (by omega)).2.trans (by rw [← ha1]; exact va_up_self _ _ _)⟩
  have f2 : k9 q6 = 12 ∧ an3 q6 = 64 := ⟨(t3 q6 (by omega)).1.trans s2, (t3 q6 (by omega)).2.trans (by rw [← ha2]; exact va_up_self _ _ _)⟩
  have f3 : k9 q11 = 6 := (t4 q11 (by omega)).1.trans s3
  have f4 : k9 e1 = 13 ∧ an3 e1 = 17 := ⟨(t5 e1 (by omega)).1.trans s4, (t5 e1 (by omega)).2.trans (by rw [← ha4]; exact va_up_self _ _ _)⟩
  have f5 : k9 q29 = 6 := (t6 q29 (by omega)).1.trans s5
  have f6 : k9 e2 = 13 ∧ an3 e2 = 17 := ⟨(t7 e2 (by omega)).1.trans s6, (t7 e2 (by omega)).2.trans (by rw [← ha6]; exact va_up_self _ _ _)⟩
  have f7 : k9 q49 = 5 := (t8 q49 (by omega)).1.trans s7
  have f8 : k9 q73 = 10 ∧ an3 q73 = 1536 := ⟨(l9 q73 (by omega)).1.trans s8, by rw [ean3]; exact va_up_self _ _ _⟩
  have nd : ¬ q11 = q29 := fun z => by
    have := (l4 q11 (by omega)).1
    rw [z, hq29] at this
    rw [z] at s3; omega
  have ne : ¬ e1 = e2 := fun z => by
    have := (l5 e1 (by omega)).1
    rw [z, he2] at this
    rw [z] at s4; omega
  have n86 : ¬ q86 = x := fun z => by rw [z, fx] at s9; omega
  -- fields
  have gD : Dk x = some q73 := by rw [eDk]; exact va_up_self _ _ _
  have gR : R x = 1 := by rw [eR]; exact va_up_self _ _ _
  have gP : P x = some q2 := by rw [eP]; exact va_up_self _ _ _
  have gL : Ld x = some q6 := by rw [eLd]; exact va_up_self _ _ _
  have gW : W x = some q11 := by rw [eW]; exact va_up_self _ _ _
  have gS : St x = some q29 := by rw [eSt]; exact va_up_self _ _ _
  have gK : Kp x = some q49 := by rw [eKp]; exact va_up_self _ _ _
  have gE1 : E4 q11 = some e1 := by rw [eE4, va_up_ne _ _ nd, eE3, va_up_ne _ _ nd, eE2]; exact va_up_self _ _ _
  have gE2 : E4 q29 = some e2 := by rw [eE4]; exact va_up_self _ _ _
  have gH1 : H3 q11 = 0 ∧ T3 q11 = 0 := ⟨by rw [eH3, va_up_ne _ _ nd, eH1]; exact va_up_self _ _ _, by rw [eT3, va_up_ne _ _ nd, eT1]; exact va_up_self _ _ _⟩
  have gH2 : H3 q29 = 0 ∧ T3 q29 = 0 := ⟨by rw [eH3]; exact va_up_self _ _ _, by rw [eT3]; exact va_up_self _ _ _⟩
  have gM : M2 q49 = 0 := by rw [eM2]; exact va_up_self _ _ _
  have gEd : Ed2 q49 = some (sa 0) := by rw [eEd2]; exact va_up_self _ _ _
  have gZ : Z q49 = 0 := by rw [eZ]; exact va_up_self _ _ _
  have gai : ai3 q73 = fun _ => 0 := by rw [eai3]; exact va_up_self _ _ _
  have n273 : ¬ q2 = q73 := fun z => by have := f1.1; rw [z] at this; omega
  have gai2 : ai3 q2 = fun _ => 0 := by rw [eai3, va_up_ne _ _ n273, ea1]; exact va_up_self _ _ _
  have n6a : ¬ q6 = e1 := fun z => by have := f2.1; rw [z] at this; omega
  have n6b : ¬ q6 = e2 := fun z => by have := f2.1; rw [z] at this; omega
  have gar : ar3 q6 = fun _ => none := by rw [ear3, va_up_ne _ _ n6b, ear2, va_up_ne _ _ n6a, ear1]; exact va_up_self _ _ _
  have D1 : ∀ e3, kdDj k9 sa (sa 0) e3 0 := fun e3 => ⟨fun n0 => absurd n0 (by decide), fun a b => by rw [a] at b; omega⟩
  have OB : kdOB k9 an3 ai3 al ar3 Dk Cn R mX42_isFull P Ld mX42_changed W St Kp mN2 mU2 mX63_bytes mX64_to mX64_sector M2 Ed2 Z E4 H3 T3 mJ22_cursor mJ22_remaining mJ22_lastRet mJ22_this_0 mJ23_cursor mJ23_lastRet mJ23_expectedModCount mJ23_this_0 sa x kdI0 := by
    refine ⟨q73, q2, q6, fun _ => 0, fun _ => 0, q11, e1, 17, 0, fun _ => 0, fun _ => 0, fun _ => 0, q29, e2, 17, 0, fun _ => 0, q49, sa 0, fun _ => 0, ⟨⟨fx, gD, f8⟩, ⟨eCx, gR, hf, hc⟩, fun i i0 i1 => ?_⟩, ⟨⟨gP, f1⟩, fun p p0 p1 => ?_⟩, ⟨⟨gL, f2⟩, fun k k0 k1 => ?_, fun k k0 k1 kl => absurd rfl kl⟩, ⟨gW, ⟨⟨f3, gE1, f4.1, by rw [f4.2]; rfl, by decide⟩, ⟨gH1.1, by decide⟩, ⟨gH1.2, by decide⟩, fun i i0 i1 => absurd i1 (by show ¬ i < 0 - 0; omega)⟩, fun i i0 i1 => absurd i1 (by show ¬ i < 0 - 0; omega)⟩, ⟨gS, ⟨⟨f5, gE2, f6.1, by rw [f6.2]; rfl, by decide⟩, ⟨gH2.1, by decide⟩, ⟨gH2.2, by decide⟩, fun i i0 i1 => absurd i1 (by show ¬ i < -1 - 0 + 1; omega)⟩, fun i i0 i1 => absurd i1 (by show ¬ i ≤ -1 - 0; omega)⟩, ⟨⟨gK, f7⟩, ⟨gEd, gZ, by decide, Or.inr ⟨rfl, rfl⟩, fun i i0 i1 => absurd i1 (by show ¬ i < 0; omega)⟩, by rw [gM]; decide, fun i i0 i1 => absurd i1 (by show ¬ i < 0; omega)⟩, ⟨⟨⟨nd, ne⟩, fun k k0 k1 kl => absurd rfl kl⟩, fun i i0 i1 => absurd i1 (by show ¬ i < 0 - 0; omega)⟩, D1 _, D1 _, ?_⟩
    · rw [gai]; exact ⟨by show -128 ≤ (0 : Int) ∧ (0 : Int) < 128; decide, rfl⟩
    · rw [gai2]; rfl
    · rw [gar]; rfl
    · rw [gM]; exact ⟨by show (0 : Int) ≤ 0; decide, by show (0 : Int) ≤ 90000; decide⟩
  have gN : mN2 q86 = 0 := by rw [eN2]; exact va_up_self _ _ _
  have gU : mU2 q86 = 0 := by rw [eU2]; exact va_up_self _ _ _
  exact ⟨1, 10, by omega, CKD_begin (kd := k9) (an := an3) (ai := ai3) (al := al) (ar := ar3) (mX42_disk := Dk) (mX42_count := Cn) (mX42_runs := R) (mX42_isFull := mX42_isFull) (mX42_places := P) (mX42_laid := Ld) (mX42_changed := mX42_changed) (mX42_waiting := W) (mX42_states := St) (mX42_kept := Kp) (mX43_number := mN2) (mX43_sectors := mU2) (mX63_bytes := mX63_bytes) (mX64_to := mX64_to) (mX64_sector := mX64_sector) (mJ1_modCount := M2) (mJ2_elementData := Ed2) (mJ2_size := Z) (mJ5_elements := E4) (mJ5_head := H3) (mJ5_tail := T3) (mJ22_cursor := mJ22_cursor) (mJ22_remaining := mJ22_remaining) (mJ22_lastRet := mJ22_lastRet) (mJ22_this_0 := mJ22_this_0) (mJ23_cursor := mJ23_cursor) (mJ23_lastRet := mJ23_lastRet) (mJ23_expectedModCount := mJ23_expectedModCount) (mJ23_this_0 := mJ23_this_0) (sa := sa) (S := kdI0) (nn := 0) (ss := 0) (by decide) (by show (0 : Int) < 90000; decide) OB ⟨s9, gN, gU⟩ (by decide) (by show (0 : Int) ≤ 4; decide) (fun kd6 an6 ai6 ar6 G6 M6 Z6 E6 H6 T6 O6 _ => ⟨by omega, by omega, H _ _ _ _ _ _ _ _ _ _ _ _ _ _ _ _ _ _ _ _ _ O6⟩)⟩
end
