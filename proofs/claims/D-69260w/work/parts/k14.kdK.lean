/-! KnowDisk: the reference (X57) does what a call does -/
def kqIR (ru fu : Int) (dk lt op ld pl : Int → Int) (ch : Int) (tg by' : Int → Int) (fi be : Int) (nu se : Int → Int) (ol nw : Int) (ku ks : Int → Int) (kn T : Int) (S : KS) : Prop := ∃ mo, kdV T S ∧ S = KS.mk dk lt op ld pl nu se ku ks tg by' ru fu ch fi be ol nw kn mo
section
variable {dk lt op ld pl tg by' nu se ku ks hd : Int → Int} {ru fu ch fi be ol nw kn T n keep tear p i mask v what kind of_ x : Int} {S : KS}
theorem Q57_page {post : Int → (Int → Int) → (Int → Int) → (Int → Int) → Int → Prop} (R : kqIR ru fu dk lt op ld pl ch tg by' fi be nu se ol nw ku ks kn T S) (hT : T ≤ 499) (h : ∀ op9 ld9 pl9 ch9, kqIR ru fu dk lt op9 ld9 pl9 ch9 tg by' fi be nu se ol nw ku ks kn (T + 1) ((kqPage kind of_ v S).2) → post (kqPage kind of_ v S).1 op9 ld9 pl9 ch9) : wpX57_page post 48 ru fu lt op ld pl ch tg fi be se ol nw ks kn kind of_ v := by
  obtain ⟨mo, H, rfl⟩ := R
  obtain ⟨⟨P, B, hb⟩, ⟨g1, g2, g3, g4, g5, g6, g7⟩, n1, b1, f1, t1, t2, t3, t4⟩ := id H
  dsimp only [KS.mk_dk, KS.mk_lt, KS.mk_op, KS.mk_ld, KS.mk_pl, KS.mk_nu, KS.mk_se, KS.mk_ks, KS.mk_tg, KS.mk_by, KS.mk_fu, KS.mk_fi, KS.mk_be, KS.mk_ol, KS.mk_nw, KS.mk_kn, KS.mk_mo] at P B hb g1 g2 g3 g4 g5 g6 g7 n1 b1 f1 t2 t3 t4
  have D : kdBd fi be ol nw kn := ⟨⟨g5.1, g5.2.2⟩, ⟨g6.1, g6.2.2⟩, g7⟩
  have cb := cntI_b (fun i => ¬ ld (2 + i) = 0) 46
  exact T57_page D P rfl (h _ _ _ _ ⟨_, H.page hT, rfl⟩)
theorem Q57_derived {post : Int → (Int → Int) → (Int → Int) → (Int → Int) → Int → Prop} (R : kqIR ru fu dk lt op ld pl ch tg by' fi be nu se ol nw ku ks kn T S) (hT : T ≤ 499) (h : ∀ op9 ld9 pl9 ch9, kqIR ru fu dk lt op9 ld9 pl9 ch9 tg by' fi be nu se ol nw ku ks kn (T + 1) ((kqDerived p S).2) → post (kqDerived p S).1 op9 ld9 pl9 ch9) : wpX57_derived post 48 ru fu lt op ld pl ch tg fi be se ol nw ks kn p := by
  obtain ⟨mo, H, rfl⟩ := R
  obtain ⟨⟨P, B, hb⟩, ⟨g1, g2, g3, g4, g5, g6, g7⟩, n1, b1, f1, t1, t2, t3, t4⟩ := id H
  dsimp only [KS.mk_dk, KS.mk_lt, KS.mk_op, KS.mk_ld, KS.mk_pl, KS.mk_nu, KS.mk_se, KS.mk_ks, KS.mk_tg, KS.mk_by, KS.mk_fu, KS.mk_fi, KS.mk_be, KS.mk_ol, KS.mk_nw, KS.mk_kn, KS.mk_mo] at P B hb g1 g2 g3 g4 g5 g6 g7 n1 b1 f1 t2 t3 t4
  have D : kdBd fi be ol nw kn := ⟨⟨g5.1, g5.2.2⟩, ⟨g6.1, g6.2.2⟩, g7⟩
  have cb := cntI_b (fun i => ¬ ld (2 + i) = 0) 46
  exact T57_derived D P rfl (h _ _ _ _ ⟨_, H.derived hT, rfl⟩)
theorem Q57_full {post : Int → Int → Prop} (R : kqIR ru fu dk lt op ld pl ch tg by' fi be nu se ol nw ku ks kn T S) (hx : x = 0 ∨ x = 1) (h : ∀ fu9, kqIR ru fu9 dk lt op ld pl ch tg by' fi be nu se ol nw ku ks kn T ((kqFull x S).2) → post (kqFull x S).1 fu9) : wpX57_full post fu x := by
  obtain ⟨mo, H, rfl⟩ := R
  obtain ⟨⟨P, B, hb⟩, ⟨g1, g2, g3, g4, g5, g6, g7⟩, n1, b1, f1, t1, t2, t3, t4⟩ := id H
  dsimp only [KS.mk_dk, KS.mk_lt, KS.mk_op, KS.mk_ld, KS.mk_pl, KS.mk_nu, KS.mk_se, KS.mk_ks, KS.mk_tg, KS.mk_by, KS.mk_fu, KS.mk_fi, KS.mk_be, KS.mk_ol, KS.mk_nw, KS.mk_kn, KS.mk_mo] at P B hb g1 g2 g3 g4 g5 g6 g7 n1 b1 f1 t2 t3 t4
  have D : kdBd fi be ol nw kn := ⟨⟨g5.1, g5.2.2⟩, ⟨g6.1, g6.2.2⟩, g7⟩
  have cb := cntI_b (fun i => ¬ ld (2 + i) = 0) 46
  exact T57_full hx f1 (h _ ⟨_, H.full hx, rfl⟩)
theorem Q57_wrong {post : Int → Prop} (R : kqIR ru fu dk lt op ld pl ch tg by' fi be nu se ol nw ku ks kn T S) (h : post (kqWrong what S) ) : wpX57_wrong post ru lt ld pl what := by
  obtain ⟨mo, H, rfl⟩ := R
  obtain ⟨⟨P, B, hb⟩, ⟨g1, g2, g3, g4, g5, g6, g7⟩, n1, b1, f1, t1, t2, t3, t4⟩ := id H
  dsimp only [KS.mk_dk, KS.mk_lt, KS.mk_op, KS.mk_ld, KS.mk_pl, KS.mk_nu, KS.mk_se, KS.mk_ks, KS.mk_tg, KS.mk_by, KS.mk_fu, KS.mk_fi, KS.mk_be, KS.mk_ol, KS.mk_nw, KS.mk_kn, KS.mk_mo] at P B hb g1 g2 g3 g4 g5 g6 g7 n1 b1 f1 t2 t3 t4
  have D : kdBd fi be ol nw kn := ⟨⟨g5.1, g5.2.2⟩, ⟨g6.1, g6.2.2⟩, g7⟩
  have cb := cntI_b (fun i => ¬ ld (2 + i) = 0) 46
  exact T57_wrong P h
theorem Q57_sync {post : Int → (Int → Int) → Int → Int → (Int → Int) → (Int → Int) → Int → Int → Prop} (R : kqIR ru fu dk lt op ld pl ch tg by' fi be nu se ol nw ku ks kn T S) (h : ∀ dk9 fi9 be9 nu9 se9 ol9 nw9, kqIR ru fu dk9 lt op ld pl ch tg by' fi9 be9 nu9 se9 ol9 nw9 ku ks kn T ((kdSy S).2) → post (kdSy S).1 dk9 fi9 be9 nu9 se9 ol9 nw9) : wpX57_sync post ru dk tg by' fi be nu se ol nw := by
  obtain ⟨mo, H, rfl⟩ := R
  obtain ⟨⟨P, B, hb⟩, ⟨g1, g2, g3, g4, g5, g6, g7⟩, n1, b1, f1, t1, t2, t3, t4⟩ := id H
  dsimp only [KS.mk_dk, KS.mk_lt, KS.mk_op, KS.mk_ld, KS.mk_pl, KS.mk_nu, KS.mk_se, KS.mk_ks, KS.mk_tg, KS.mk_by, KS.mk_fu, KS.mk_fi, KS.mk_be, KS.mk_ol, KS.mk_nw, KS.mk_kn, KS.mk_mo] at P B hb g1 g2 g3 g4 g5 g6 g7 n1 b1 f1 t2 t3 t4
  have D : kdBd fi be ol nw kn := ⟨⟨g5.1, g5.2.2⟩, ⟨g6.1, g6.2.2⟩, g7⟩
  have cb := cntI_b (fun i => ¬ ld (2 + i) = 0) 46
  have V := H.sync
  refine T57_sync ⟨⟨g5.1, g5.2.1⟩, g5.2.2⟩ ⟨by omega, g6.2.2⟩ (fun s a b => by have := g2 s a b; omega) (fun w => ?_) (fun w => ?_)
  · have e0 : kdSy (KS.mk dk lt op ld pl nu se ku ks tg by' ru fu ch fi be ol nw kn mo) = (-3, (KS.mk dk lt op ld pl nu se ku ks tg by' ru fu ch fi be ol nw kn mo)) := if_pos w
    rw [e0] at h V
    exact h _ _ _ _ _ _ _ ⟨_, V, rfl⟩
  · have e0 : kdSy (KS.mk dk lt op ld pl nu se ku ks tg by' ru fu ch fi be ol nw kn mo) = (nu nw, KS.mk (kdWm dk tg by' fi (be - fi).toNat) lt op ld pl (updI nu 0 (nu nw)) (updI se 0 (se nw)) ku ks tg by' ru fu ch 0 0 0 0 kn mo) := if_neg w
    rw [e0] at h V
    exact h _ _ _ _ _ _ _ ⟨_, V, rfl⟩
theorem Q57_cut {post : Int → (Int → Int) → (Int → Int) → (Int → Int) → (Int → Int) → Int → Int → Int → (Int → Int) → (Int → Int) → Int → Int → Int → Prop} (R : kqIR ru fu dk lt op ld pl ch tg by' fi be nu se ol nw ku ks kn T S) (hT : T ≤ 499) (h : ∀ ru9 dk9 lt9 ld9 pl9 ch9 fi9 be9 nu9 se9 ol9 nw9 kn9, kqIR ru9 fu dk9 lt9 op ld9 pl9 ch9 tg by' fi9 be9 nu9 se9 ol9 nw9 ku ks kn9 (T + 1) ((kdCu S keep tear)) → post  ru9 dk9 lt9 ld9 pl9 ch9 fi9 be9 nu9 se9 ol9 nw9 kn9) : wpX57_cut post ru dk lt ld pl ch tg by' fi be nu se ol nw kn keep tear := by
  obtain ⟨mo, H, rfl⟩ := R
  obtain ⟨⟨P, B, hb⟩, ⟨g1, g2, g3, g4, g5, g6, g7⟩, n1, b1, f1, t1, t2, t3, t4⟩ := id H
  dsimp only [KS.mk_dk, KS.mk_lt, KS.mk_op, KS.mk_ld, KS.mk_pl, KS.mk_nu, KS.mk_se, KS.mk_ks, KS.mk_tg, KS.mk_by, KS.mk_fu, KS.mk_fi, KS.mk_be, KS.mk_ol, KS.mk_nw, KS.mk_kn, KS.mk_mo] at P B hb g1 g2 g3 g4 g5 g6 g7 n1 b1 f1 t2 t3 t4
  have D : kdBd fi be ol nw kn := ⟨⟨g5.1, g5.2.2⟩, ⟨g6.1, g6.2.2⟩, g7⟩
  have cb := cntI_b (fun i => ¬ ld (2 + i) = 0) 46
  have V := H.cut (keep := keep) (tear := tear) hT
  refine T57_cut ⟨⟨g5.1, g5.2.1⟩, g5.2.2⟩ (fun s a b => by have := g2 s a b; omega) (fun w => ?_) (fun w => ?_)
  · have e0 : kdCu (KS.mk dk lt op ld pl nu se ku ks tg by' ru fu ch fi be ol nw kn mo) keep tear = (KS.mk dk lt op ld pl nu se ku ks tg by' ru fu ch fi be ol nw kn mo) := if_pos w
    rw [e0] at h V
    exact h _ _ _ _ _ _ _ _ _ _ _ _ _ ⟨_, V, rfl⟩
  · have e0 : kdCu (KS.mk dk lt op ld pl nu se ku ks tg by' ru fu ch fi be ol nw kn mo) keep tear = KS.mk (kdCd dk tg by' fi be keep tear) (kdCy lt (kdCd dk tg by' fi be keep tear) 2048) op (kdFl ld 64 0) (kdFl pl 30 (-1)) (updI nu 0 0) (updI se 0 0) ku ks tg by' 0 fu 0 0 0 0 0 0 (mo + 1) := if_neg w
    rw [e0] at h V
    exact h _ _ _ _ _ _ _ _ _ _ _ _ _ ⟨_, V, rfl⟩
theorem Q57_start {post : Int → Int → (Int → Int) → (Int → Int) → (Int → Int) → Int → Int → Int → (Int → Int) → (Int → Int) → Int → Int → Int → Prop} (R : kqIR ru fu dk lt op ld pl ch tg by' fi be nu se ol nw ku ks kn T S) (hT : T ≤ 499) (h : ∀ ru9 lt9 ld9 pl9 ch9 fi9 be9 nu9 se9 ol9 nw9 kn9, kqIR ru9 fu dk lt9 op ld9 pl9 ch9 tg by' fi9 be9 nu9 se9 ol9 nw9 ku ks kn9 (T + 1) ((kdSt2 S).2) → post (kdSt2 S).1 ru9 lt9 ld9 pl9 ch9 fi9 be9 nu9 se9 ol9 nw9 kn9) : wpX57_start post 48 ru dk lt ld pl ch fi be nu se ol nw kn := by
  obtain ⟨mo, H, rfl⟩ := R
  obtain ⟨⟨P, B, hb⟩, ⟨g1, g2, g3, g4, g5, g6, g7⟩, n1, b1, f1, t1, t2, t3, t4⟩ := id H
  dsimp only [KS.mk_dk, KS.mk_lt, KS.mk_op, KS.mk_ld, KS.mk_pl, KS.mk_nu, KS.mk_se, KS.mk_ks, KS.mk_tg, KS.mk_by, KS.mk_fu, KS.mk_fi, KS.mk_be, KS.mk_ol, KS.mk_nw, KS.mk_kn, KS.mk_mo] at P B hb g1 g2 g3 g4 g5 g6 g7 n1 b1 f1 t2 t3 t4
  have D : kdBd fi be ol nw kn := ⟨⟨g5.1, g5.2.2⟩, ⟨g6.1, g6.2.2⟩, g7⟩
  have cb := cntI_b (fun i => ¬ ld (2 + i) = 0) 46
  have V := H.start hT
  refine T57_start B (fun w => ?_) (fun w hh eh => ?_)
  · have e0 : kdSt2 (KS.mk dk lt op ld pl nu se ku ks tg by' ru fu ch fi be ol nw kn mo) = (-3, (KS.mk dk lt op ld pl nu se ku ks tg by' ru fu ch fi be ol nw kn mo)) := if_pos w
    rw [e0] at h V
    exact h _ _ _ _ _ _ _ _ _ _ _ _ ⟨_, V, rfl⟩
  · subst eh
    have e0 : kdSt2 (KS.mk dk lt op ld pl nu se ku ks tg by' ru fu ch fi be ol nw kn mo) = (kdHn dk (kdHh dk), KS.mk dk (kdCy lt dk 2048) op (kdFl ld 64 0) (kdPs dk (kdHw dk (kdHh dk)) (kdFl pl 30 (-1)) 64) (updI nu 0 (kdHn dk (kdHh dk))) (updI se 0 (kdHw dk (kdHh dk))) ku ks tg by' 1 fu 0 0 0 0 0 0 (mo + 1)) := if_neg (fun z => z w)
    rw [e0] at h V
    exact h _ _ _ _ _ _ _ _ _ _ _ _ ⟨_, V, rfl⟩
theorem Q57_poke {post : Int → (Int → Int) → (Int → Int) → Prop} (R : kqIR ru fu dk lt op ld pl ch tg by' fi be nu se ol nw ku ks kn T S) (h : ∀ dk9 lt9, kqIR ru fu dk9 lt9 op ld pl ch tg by' fi be nu se ol nw ku ks kn T ((kdPk S p i mask).2) → post (kdPk S p i mask).1 dk9 lt9) : wpX57_poke post ru dk lt ld pl tg fi be p i mask := by
  obtain ⟨mo, H, rfl⟩ := R
  obtain ⟨⟨P, B, hb⟩, ⟨g1, g2, g3, g4, g5, g6, g7⟩, n1, b1, f1, t1, t2, t3, t4⟩ := id H
  dsimp only [KS.mk_dk, KS.mk_lt, KS.mk_op, KS.mk_ld, KS.mk_pl, KS.mk_nu, KS.mk_se, KS.mk_ks, KS.mk_tg, KS.mk_by, KS.mk_fu, KS.mk_fi, KS.mk_be, KS.mk_ol, KS.mk_nw, KS.mk_kn, KS.mk_mo] at P B hb g1 g2 g3 g4 g5 g6 g7 n1 b1 f1 t2 t3 t4
  have D : kdBd fi be ol nw kn := ⟨⟨g5.1, g5.2.2⟩, ⟨g6.1, g6.2.2⟩, g7⟩
  have cb := cntI_b (fun i => ¬ ld (2 + i) = 0) 46
  have V := H.poke (p := p) (i := i) (mask := mask)
  refine T57_poke ⟨g5.1, g5.2.2⟩ P (fun w => ?_) (fun w w1 => ?_) (fun w w1 w2 => ?_) (fun w w1 w2 w3 => ?_) (fun w w1 w2 w3 => ?_)
  · have e0 : kdPk (KS.mk dk lt op ld pl nu se ku ks tg by' ru fu ch fi be ol nw kn mo) p i mask = (-3, (KS.mk dk lt op ld pl nu se ku ks tg by' ru fu ch fi be ol nw kn mo)) := if_pos w
    rw [e0] at h V
    exact h _ _ ⟨_, V, rfl⟩
  · have e0 : kdPk (KS.mk dk lt op ld pl nu se ku ks tg by' ru fu ch fi be ol nw kn mo) p i mask = (-1, (KS.mk dk lt op ld pl nu se ku ks tg by' ru fu ch fi be ol nw kn mo)) := (if_neg w).trans (pif_f w1)
    rw [e0] at h V
    exact h _ _ ⟨_, V, rfl⟩
  · have e0 : kdPk (KS.mk dk lt op ld pl nu se ku ks tg by' ru fu ch fi be ol nw kn mo) p i mask = (-2, (KS.mk dk lt op ld pl nu se ku ks tg by' ru fu ch fi be ol nw kn mo)) := (if_neg w).trans ((pif_t w1).trans (if_pos w2))
    rw [e0] at h V
    exact h _ _ ⟨_, V, rfl⟩
  · have e0 : kdPk (KS.mk dk lt op ld pl nu se ku ks tg by' ru fu ch fi be ol nw kn mo) p i mask = (-3, (KS.mk dk lt op ld pl nu se ku ks tg by' ru fu ch fi be ol nw kn mo)) := (if_neg w).trans ((pif_t w1).trans ((if_neg w2).trans (pif_t w3)))
    rw [e0] at h V
    exact h _ _ ⟨_, V, rfl⟩
  · have e0 : kdPk (KS.mk dk lt op ld pl nu se ku ks tg by' ru fu ch fi be ol nw kn mo) p i mask = (zxor (dk (32 * pl p + i)) mask, KS.mk (updI dk (32 * pl p + i) (zxor (dk (32 * pl p + i)) mask)) (updI lt (32 * pl p + i) (zxor (dk (32 * pl p + i)) mask)) op ld pl nu se ku ks tg by' ru fu ch fi be ol nw kn mo) := (if_neg w).trans ((pif_t w1).trans ((if_neg w2).trans (pif_f w3)))
    rw [e0] at h V
    exact h _ _ ⟨_, V, rfl⟩
theorem Q57_backup {post : Int → (Int → Int) → (Int → Int) → Int → Prop} (R : kqIR ru fu dk lt op ld pl ch tg by' fi be nu se ol nw ku ks kn T S) (hT : T ≤ 499) (h : ∀ ku9 ks9 kn9, kqIR ru fu dk lt op ld pl ch tg by' fi be nu se ol nw ku9 ks9 kn9 (T + 1) ((kdBk S v).2) → post (kdBk S v).1 ku9 ks9 kn9) : wpX57_backup post ru nu se nw ku ks kn v := by
  obtain ⟨mo, H, rfl⟩ := R
  obtain ⟨⟨P, B, hb⟩, ⟨g1, g2, g3, g4, g5, g6, g7⟩, n1, b1, f1, t1, t2, t3, t4⟩ := id H
  dsimp only [KS.mk_dk, KS.mk_lt, KS.mk_op, KS.mk_ld, KS.mk_pl, KS.mk_nu, KS.mk_se, KS.mk_ks, KS.mk_tg, KS.mk_by, KS.mk_fu, KS.mk_fi, KS.mk_be, KS.mk_ol, KS.mk_nw, KS.mk_kn, KS.mk_mo] at P B hb g1 g2 g3 g4 g5 g6 g7 n1 b1 f1 t2 t3 t4
  have D : kdBd fi be ol nw kn := ⟨⟨g5.1, g5.2.2⟩, ⟨g6.1, g6.2.2⟩, g7⟩
  have cb := cntI_b (fun i => ¬ ld (2 + i) = 0) 46
  have V := H.backup (v := v) hT
  refine T57_backup ⟨by omega, g6.2.2⟩ g7 (fun w => ?_) (fun w w1 => ?_) (fun w w1 w2 => ?_) (fun w w1 w2 => ?_)
  · have e0 : kdBk (KS.mk dk lt op ld pl nu se ku ks tg by' ru fu ch fi be ol nw kn mo) v = (-3, (KS.mk dk lt op ld pl nu se ku ks tg by' ru fu ch fi be ol nw kn mo)) := if_pos w
    rw [e0] at h V
    exact h _ _ _ ⟨_, V, rfl⟩
  · have e0 : kdBk (KS.mk dk lt op ld pl nu se ku ks tg by' ru fu ch fi be ol nw kn mo) v = (-1, (KS.mk dk lt op ld pl nu se ku ks tg by' ru fu ch fi be ol nw kn mo)) := (if_neg w).trans (if_pos w1)
    rw [e0] at h V
    exact h _ _ _ ⟨_, V, rfl⟩
  · have e0 : kdBk (KS.mk dk lt op ld pl nu se ku ks tg by' ru fu ch fi be ol nw kn mo) v = (-4, (KS.mk dk lt op ld pl nu se ku ks tg by' ru fu ch fi be ol nw kn mo)) := (if_neg w).trans ((if_neg (fun z => z w1)).trans (if_pos w2))
    rw [e0] at h V
    exact h _ _ _ ⟨_, V, rfl⟩
  · have e0 : kdBk (KS.mk dk lt op ld pl nu se ku ks tg by' ru fu ch fi be ol nw kn mo) v = (kdBc (se nw), KS.mk dk lt op ld pl nu se (updI ku kn v) (updI ks kn (se nw)) tg by' ru fu ch fi be ol nw (kn + 1) (mo + 1)) := (if_neg w).trans ((if_neg (fun z => z w1)).trans (if_neg (Int.ne_of_lt w2)))
    rw [e0] at h V
    exact h _ _ _ ⟨_, V, rfl⟩
theorem Q57_drop {post : Int → (Int → Int) → (Int → Int) → Int → Prop} (R : kqIR ru fu dk lt op ld pl ch tg by' fi be nu se ol nw ku ks kn T S) (hT : T ≤ 499) (h : ∀ ku9 ks9 kn9, kqIR ru fu dk lt op ld pl ch tg by' fi be nu se ol nw ku9 ks9 kn9 (T + 1) ((kdDp S v).2) → post (kdDp S v).1 ku9 ks9 kn9) : wpX57_drop post ru pl tg fi be se ol nw ku ks kn v := by
  obtain ⟨mo, H, rfl⟩ := R
  obtain ⟨⟨P, B, hb⟩, ⟨g1, g2, g3, g4, g5, g6, g7⟩, n1, b1, f1, t1, t2, t3, t4⟩ := id H
  dsimp only [KS.mk_dk, KS.mk_lt, KS.mk_op, KS.mk_ld, KS.mk_pl, KS.mk_nu, KS.mk_se, KS.mk_ks, KS.mk_tg, KS.mk_by, KS.mk_fu, KS.mk_fi, KS.mk_be, KS.mk_ol, KS.mk_nw, KS.mk_kn, KS.mk_mo] at P B hb g1 g2 g3 g4 g5 g6 g7 n1 b1 f1 t2 t3 t4
  have D : kdBd fi be ol nw kn := ⟨⟨g5.1, g5.2.2⟩, ⟨g6.1, g6.2.2⟩, g7⟩
  have cb := cntI_b (fun i => ¬ ld (2 + i) = 0) 46
  have V := H.drop (v := v) hT
  refine T57_drop D (fun w => ?_) (fun w w1 => ?_) (fun w w1 => ?_)
  · have e0 : kdDp (KS.mk dk lt op ld pl nu se ku ks tg by' ru fu ch fi be ol nw kn mo) v = (-3, (KS.mk dk lt op ld pl nu se ku ks tg by' ru fu ch fi be ol nw kn mo)) := if_pos w
    rw [e0] at h V
    exact h _ _ _ ⟨_, V, rfl⟩
  · have e0 : kdDp (KS.mk dk lt op ld pl nu se ku ks tg by' ru fu ch fi be ol nw kn mo) v = (-1, (KS.mk dk lt op ld pl nu se ku ks tg by' ru fu ch fi be ol nw kn mo)) := (if_neg w).trans (if_pos w1)
    rw [e0] at h V
    exact h _ _ _ ⟨_, V, rfl⟩
  · have e0 : kdDp (KS.mk dk lt op ld pl nu se ku ks tg by' ru fu ch fi be ol nw kn mo) v = (kdHc pl tg fi be se ol nw ks kn - kdHc pl tg fi be se ol nw (kdLo ks (kdKf ku kn v) (kn - 1)) (kn - 1), KS.mk dk lt op ld pl nu se (kdLo ku (kdKf ku kn v) (kn - 1)) (kdLo ks (kdKf ku kn v) (kn - 1)) tg by' ru fu ch fi be ol nw (kn - 1) (mo + 1)) := (if_neg w).trans (if_neg (Int.ne_of_lt w1))
    rw [e0] at h V
    exact h _ _ _ ⟨_, V, rfl⟩
theorem Q57_commit {post : Int → (Int → Int) → (Int → Int) → (Int → Int) → Int → (Int → Int) → (Int → Int) → Int → (Int → Int) → (Int → Int) → Int → (Int → Int) → Prop} (R : kqIR ru fu dk lt op ld pl ch tg by' fi be nu se ol nw ku ks kn T S) (hT : T ≤ 499) (h : ∀ lt9 op9 ld9 ch9 tg9 by9 be9 nu9 se9 nw9 hd9, kqIR ru fu dk lt9 op9 ld9 pl ch9 tg9 by9 fi be9 nu9 se9 ol nw9 ku ks kn (T + 1) ((kdCo S n).2) → post (kdCo S n).1 lt9 op9 ld9 ch9 tg9 by9 be9 nu9 se9 nw9 hd9) : wpX57_commit post 48 ru lt op ld pl ch tg by' be nu se nw hd n := by
  obtain ⟨mo, H, rfl⟩ := R
  obtain ⟨⟨P, B, hb⟩, ⟨g1, g2, g3, g4, g5, g6, g7⟩, n1, b1, f1, t1, t2, t3, t4⟩ := id H
  dsimp only [KS.mk_dk, KS.mk_lt, KS.mk_op, KS.mk_ld, KS.mk_pl, KS.mk_nu, KS.mk_se, KS.mk_ks, KS.mk_tg, KS.mk_by, KS.mk_fu, KS.mk_fi, KS.mk_be, KS.mk_ol, KS.mk_nw, KS.mk_kn, KS.mk_mo] at P B hb g1 g2 g3 g4 g5 g6 g7 n1 b1 f1 t2 t3 t4
  have D : kdBd fi be ol nw kn := ⟨⟨g5.1, g5.2.2⟩, ⟨g6.1, g6.2.2⟩, g7⟩
  have cb := cntI_b (fun i => ¬ ld (2 + i) = 0) 46
  have V := H.commit (n := n) hT
  refine T57_commit ⟨by omega, by omega⟩ ⟨by omega, by omega⟩ n1.1 (fun w => ?_) (fun w w1 => ?_) (fun w w1 Q eQ hh eh => ?_)
  · have e0 : kdCo (KS.mk dk lt op ld pl nu se ku ks tg by' ru fu ch fi be ol nw kn mo) n = (-3, (KS.mk dk lt op ld pl nu se ku ks tg by' ru fu ch fi be ol nw kn mo)) := if_pos w
    rw [e0] at h V
    exact h _ _ _ _ _ _ _ _ _ _ _ ⟨_, V, rfl⟩
  · have e0 : kdCo (KS.mk dk lt op ld pl nu se ku ks tg by' ru fu ch fi be ol nw kn mo) n = (-2, (KS.mk dk lt op ld pl nu se ku ks tg by' ru fu ch fi be ol nw kn mo)) := (if_neg w).trans (if_pos w1)
    rw [e0] at h V
    exact h _ _ _ _ _ _ _ _ _ _ _ ⟨_, V, rfl⟩
  · have e0 : kdCo (KS.mk dk lt op ld pl nu se ku ks tg by' ru fu ch fi be ol nw kn mo) n = (Q.2.2.2.2.2 + 1 - be, KS.mk dk (kdCn Q.1 (n % 2) (kdHr (fun _ => 0) (kdHs Q.1 pl 46).1 n (kdHs Q.1 pl 46).2) 0 32) Q.2.1 Q.2.2.1 pl (updI nu (nw + 1) n) (updI se (nw + 1) (kdHs Q.1 pl 46).1) ku ks (updI Q.2.2.2.1 Q.2.2.2.2.2 (n % 2)) (kdCn Q.2.2.2.2.1 Q.2.2.2.2.2 (kdHr (fun _ => 0) (kdHs Q.1 pl 46).1 n (kdHs Q.1 pl 46).2) 0 32) ru fu 0 fi (Q.2.2.2.2.2 + 1) ol (nw + 1) kn mo) := by
      unfold kdCo
      rw [if_neg (show ¬ (KS.ru (KS.mk dk lt op ld pl nu se ku ks tg by' ru fu ch fi be ol nw kn mo) = 0 ∨ KS.ch (KS.mk dk lt op ld pl nu se ku ks tg by' ru fu ch fi be ol nw kn mo) = 0) from w), if_neg (show ¬ (n ≤ KS.nu (KS.mk dk lt op ld pl nu se ku ks tg by' ru fu ch fi be ol nw kn mo) (KS.nw (KS.mk dk lt op ld pl nu se ku ks tg by' ru fu ch fi be ol nw kn mo)) ∨ 1000000 < n) from w1), show kdCs n (KS.lt (KS.mk dk lt op ld pl nu se ku ks tg by' ru fu ch fi be ol nw kn mo), KS.op (KS.mk dk lt op ld pl nu se ku ks tg by' ru fu ch fi be ol nw kn mo), KS.ld (KS.mk dk lt op ld pl nu se ku ks tg by' ru fu ch fi be ol nw kn mo), KS.tg (KS.mk dk lt op ld pl nu se ku ks tg by' ru fu ch fi be ol nw kn mo), KS.by' (KS.mk dk lt op ld pl nu se ku ks tg by' ru fu ch fi be ol nw kn mo), KS.be (KS.mk dk lt op ld pl nu se ku ks tg by' ru fu ch fi be ol nw kn mo)) 46 = Q from eQ.symm]
      rfl
    rw [e0] at h V
    have cn : ∀ (r : Int → Int) (to : Int), kdCn r to hh 0 32 = kdCn r to (kdHr (fun _ => 0) (kdHs Q.1 pl 46).1 n (kdHs Q.1 pl 46).2) 0 32 := fun r to => funext fun i => by
      unfold kdCn
      by_cases z : 32 * to ≤ i ∧ i < 32 * to + 32
      · rw [if_pos z, if_pos z, eh]
        exact kdHr_c (by omega) (by omega)
      · rw [if_neg z, if_neg z]
    rw [cn, cn]
    exact h _ _ _ _ _ _ _ _ _ _ _ ⟨_, V, rfl⟩
end
