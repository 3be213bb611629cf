/-! DatatypeValues: what a call does, as functions on one state: tape, its size; how many values, kinds, ones, twos, bytes; what is told, its size -/
abbrev dvS : Type := ((Int → Int) × Int) × (Int × (Int → Int) × (Int → Int) × (Int → Int) × (Int → Int)) × Int × (Int → Int)
noncomputable def dqType (x n : Int) : dvS → Int × dvS
  | ((tp, sz), R) => if 1 ≤ n ∧ n ≤ 8 then (if 64 < sz + n then (-3, ((tp, sz), R)) else (sz + n, ((dvTq tp sz x n n, sz + n), R))) else (-1, ((tp, sz), R))
noncomputable def dqRead (kind : Int) : dvS → Int × dvS
  | ((tp, sz), (c, kn, on, tw, bt), os, o) => if 0 ≤ kind ∧ kind ≤ 8 then (if 0 ≤ (dvRv tp sz kind).1 then (-10 - (dvRv tp sz kind).1, ((tp, 0), (c, kn, on, tw, bt), os, o)) else if c = 200 then (-3, ((tp, 0), (c, kn, on, tw, bt), os, o)) else (c, ((tp, 0), (c + 1, updI kn c kind, updI on c (if kind ≤ 6 then (dvRv tp sz kind).2.1 else (dvRv tp sz kind).2.2.2.1), updI tw c (if kind = 3 ∨ 6 < kind then 0 else (dvRv tp sz kind).2.2.1), dvBu bt c (dvRv tp sz kind).2.2.2.1 (dvRv tp sz kind).2.2.2.2), os, o))) else (-1, ((tp, sz), (c, kn, on, tw, bt), os, o))
def dqValues : dvS → Int
  | (_, (c, _), _) => c
def dqKind (v : Int) : dvS → Int
  | (_, (c, kn, _), _) => if 0 ≤ v ∧ v < c then kn v else -1
def dqPart (v i : Int) : dvS → Int
  | (_, (c, _, on, tw, _), _) => if 0 ≤ v ∧ v < c then (if i = 0 then on v else if i = 1 then tw v else 0) else 0
def dqByteOf (v i : Int) : dvS → Int
  | (_, (c, kn, on, _, bt), _) => if (0 ≤ v ∧ v < c) ∧ 6 < kn v ∧ 0 ≤ i ∧ i < on v then bt (20 * v + i) else -1
noncomputable def dqCompare (a b : Int) : dvS → Int
  | (_, (c, kn, on, tw, bt), _) => dvCm kn on tw bt c a b
noncomputable def dqTell (v : Int) : dvS → Int × dvS
  | (X, (c, kn, on, tw, bt), os, o) => if 0 ≤ v ∧ v < c then (((dvTl kn on tw bt v).length : Int), (X, (c, kn, on, tw, bt), ((dvTl kn on tw bt v).length : Int), dvPo (fun _ => 0) (dvTl kn on tw bt v))) else (-1, (X, (c, kn, on, tw, bt), os, o))
def dqTold (i : Int) : dvS → Int
  | (_, _, os, o) => if 0 ≤ i ∧ i < os then o i else -1
noncomputable def dqApply (op a b : Int) : dvS → Int × dvS
  | (X, (c, kn, on, tw, bt), R) => if (dvAp kn on tw c op a b).1 < 0 then ((dvAp kn on tw c op a b).1, (X, (c, kn, on, tw, bt), R)) else if c = 200 then (-3, (X, (c, kn, on, tw, bt), R)) else (c, (X, (c + 1, updI kn c (dvAp kn on tw c op a b).2.1, updI on c (dvAp kn on tw c op a b).2.2.1, updI tw c (dvAp kn on tw c op a b).2.2.2, bt), R))
section
variable {tp kn on tw bt o o' : Int → Int} {sz c os x n j v i : Int} {L : List Int}
theorem dvT.tq (h : dvT tp) : dvT (dvTq tp sz x n j) := fun i => by
  unfold dvTq
  by_cases z : sz ≤ i ∧ i < sz + j
  · rw [if_pos z]
    exact dv_w8
  · rw [if_neg z]
    exact h i
theorem dvPo_c (h : 0 ≤ i ∧ i < L.length) : dvPo o L i = dvPo o' L i := by
  unfold dvPo
  rw [if_pos h, if_pos h]
theorem dvTz_l {z : Int} (h2 : z = 10000 ∨ (-900 ≤ z ∧ z ≤ 900)) : ((dvTz L z).length : Int) ≤ L.length + 8 := by
  unfold dvTz
  by_cases q : z = 0
  · rw [if_pos q, dvL1]; omega
  rw [if_neg q]
  by_cases q2 : z = 10000
  · rw [if_pos q2]; omega
  rw [if_neg q2]
  have ab : 0 ≤ dvAb z ∧ dvAb z ≤ 900 := by unfold dvAb; split <;> omega
  generalize (if 0 ≤ z then (43 : Int) else 45) = sg
  have l1 := dvL1 (L := L) (b := sg)
  have l2 := dvNm_l (L := L ++ [sg]) (v := dvAb z / 60) (least := 2) 2 (by omega) (by decide) (by decide)
  have l3 := dvL1 (L := dvNm (L ++ [sg]) (dvAb z / 60) 2) (b := 58)
  have l4 := dvNm_l (L := dvNm (L ++ [sg]) (dvAb z / 60) 2 ++ [58]) (v := dvAb z % 60) (least := 2) 2 (by omega) (by decide) (by decide)
  omega
theorem dvTd_l {d : Int} (h : dvOf 1 1 1 ≤ d ∧ d < dvOf 10000 1 1) : ((dvTd [] d).length : Int) ≤ 15 := by
  have db := dvTd_b h
  have a0 : ((([] : List Int).length : Nat) : Int) = 0 := rfl
  have a1 := dvNm_l (L := []) (v := dvYy d) (least := 4) 5 (by omega) (by decide) (by decide)
  have a2 := dvL1 (L := dvNm [] (dvYy d) 4) (b := 45)
  have a3 := dvNm_l (L := dvNm [] (dvYy d) 4 ++ [45]) (v := dvMm d) (least := 2) 2 (by omega) (by decide) (by decide)
  have a4 := dvL1 (L := dvNm (dvNm [] (dvYy d) 4 ++ [45]) (dvMm d) 2) (b := 45)
  have a5 := dvNm_l (L := dvNm (dvNm [] (dvYy d) 4 ++ [45]) (dvMm d) 2 ++ [45]) (v := dvDd d) (least := 2) 2 (by omega) (by decide) (by decide)
  unfold dvTd
  omega
theorem dvTc_l {r : Int} (r0 : 0 ≤ r ∧ r < 86400000) : ((dvTc L r).length : Int) ≤ L.length + 25 := by
  unfold dvTc
  have b1 := dvL1 (L := L) (b := 84)
  have b2 := dvNm_l (L := L ++ [84]) (v := r / 3600000) (least := 2) 2 (by omega) (by decide) (by decide)
  have b3 := dvL1 (L := dvNm (L ++ [84]) (r / 3600000) 2) (b := 58)
  have b4 := dvNm_l (L := dvNm (L ++ [84]) (r / 3600000) 2 ++ [58]) (v := r / 60000 % 60) (least := 2) 2 (by omega) (by decide) (by decide)
  have b5 := dvL1 (L := dvNm (dvNm (L ++ [84]) (r / 3600000) 2 ++ [58]) (r / 60000 % 60) 2) (b := 58)
  have b6 := dvNm_l (L := dvNm (dvNm (L ++ [84]) (r / 3600000) 2 ++ [58]) (r / 60000 % 60) 2 ++ [58]) (v := r / 1000 % 60) (least := 2) 2 (by omega) (by decide) (by decide)
  have b7 := dvMs_l (L := dvNm (dvNm (dvNm (L ++ [84]) (r / 3600000) 2 ++ [58]) (r / 60000 % 60) 2 ++ [58]) (r / 1000 % 60) 2) (v := r % 1000) (by omega)
  omega
theorem dvTt_l {k one two : Int} (h1 : 86400000 * dvOf 1 1 1 ≤ one ∧ one < 86400000 * dvOf 10000 1 1) (h2 : two = 10000 ∨ (-900 ≤ two ∧ two ≤ 900)) : ((dvTt [] k one two).length : Int) ≤ 50 := by
  have n1 : dvOf 1 1 1 = -719162 := by decide
  have n2 : dvOf 10000 1 1 = 2932897 := by decide
  have l1 := dvTd_l (d := one / 86400000) (by rw [n1, n2] at h1 ⊢; omega)
  have l2 := dvTc_l (L := dvTd [] (one / 86400000)) (r := one % 86400000) (by omega)
  unfold dvTt
  by_cases q : k = 5
  · rw [if_pos q]
    have l3 := dvTz_l (L := dvTc (dvTd [] (one / 86400000)) (one % 86400000)) h2
    omega
  · rw [if_neg q]
    have l3 := dvTz_l (L := dvTd [] (one / 86400000)) h2
    omega
theorem dvTs_l {m i : Int} (hm : 0 ≤ m ∧ m < 1000000000) (hi : 0 ≤ i ∧ i < 1000000000000000) : ((dvTs L m i).length : Int) ≤ L.length + 45 := by
  unfold dvTs
  have a1 := dvSo_l (L := L) (v := m / 12) (b := 89) 8 (by omega) (by decide)
  have a2 := dvSo_l (L := dvSo L (m / 12) 89) (v := m % 12) (b := 77) 2 (by omega) (by decide)
  have a3 := dvSo_l (L := dvSo (dvSo L (m / 12) 89) (m % 12) 77) (v := i / 86400000) (b := 68) 8 (by omega) (by decide)
  generalize dvSo (dvSo (dvSo L (m / 12) 89) (m % 12) 77) (i / 86400000) 68 = T at a3 ⊢
  have r0 : 0 ≤ i % 86400000 ∧ i % 86400000 < 86400000 := by omega
  generalize i % 86400000 = r at r0 ⊢
  have b1 := dvL1 (L := T) (b := 84)
  have b2 := dvSo_l (L := T ++ [84]) (v := r / 3600000) (b := 72) 2 (by omega) (by decide)
  have b3 := dvSo_l (L := dvSo (T ++ [84]) (r / 3600000) 72) (v := r / 60000 % 60) (b := 77) 2 (by omega) (by decide)
  by_cases q : r = 0 ∧ ¬ (m = 0 ∧ i = 0)
  · rw [if_pos q]; omega
  rw [if_neg q]
  by_cases q2 : r % 60000 = 0 ∧ ¬ (m = 0 ∧ i = 0)
  · rw [if_pos q2]; omega
  rw [if_neg q2]
  have c1 := dvNm_l (L := dvSo (dvSo (T ++ [84]) (r / 3600000) 72) (r / 60000 % 60) 77) (v := r / 1000 % 60) (least := 1) 2 (by omega) (by decide) (by decide)
  have c2 := dvMs_l (L := dvNm (dvSo (dvSo (T ++ [84]) (r / 3600000) 72) (r / 60000 % 60) 77) (r / 1000 % 60) 1) (v := r % 1000) (by omega)
  have c3 := dvL1 (L := dvMs (dvNm (dvSo (dvSo (T ++ [84]) (r / 3600000) 72) (r / 60000 % 60) 77) (r / 1000 % 60) 1) (r % 1000)) (b := 83)
  omega
theorem dvTx_l {m i : Int} (hm : -1000000000 < m ∧ m < 1000000000) (hi : -1000000000000000 < i ∧ i < 1000000000000000) : ((dvTx [] m i).length : Int) ≤ 45 := by
  unfold dvTx
  have ab : 0 ≤ dvAb i ∧ dvAb i < 1000000000000000 := by unfold dvAb; split <;> omega
  have a0 : ((([] : List Int).length : Nat) : Int) = 0 := rfl
  have a1 := dvL1 (L := []) (b := 80)
  have a2 := dvNm_l (L := [] ++ [80]) (v := m) (least := 1) 9 (by omega) (by decide) (by decide)
  have a3 := dvL1 (L := dvNm ([] ++ [80]) m 1) (b := 77)
  have a4 := dvL1 (L := dvNm ([] ++ [80]) m 1 ++ [77]) (b := 84)
  have a5 := dvL1 (L := dvNm ([] ++ [80]) m 1 ++ [77] ++ [84]) (b := 45)
  have go : ∀ T : List Int, (T.length : Int) ≤ 20 → ((dvNm (dvNm T (dvAb i / 1000) 1 ++ [46]) (dvAb i % 1000) 3 ++ [83]).length : Int) ≤ 45 := fun T hl => by
    have b1 := dvNm_l (L := T) (v := dvAb i / 1000) (least := 1) 13 (by omega) (by decide) (by decide)
    have b2 := dvL1 (L := dvNm T (dvAb i / 1000) 1) (b := 46)
    have b3 := dvNm_l (L := dvNm T (dvAb i / 1000) 1 ++ [46]) (v := dvAb i % 1000) (least := 3) 3 (by omega) (by decide) (by decide)
    have b4 := dvL1 (L := dvNm (dvNm T (dvAb i / 1000) 1 ++ [46]) (dvAb i % 1000) 3) (b := 83)
    omega
  by_cases q : 0 ≤ i
  · rw [if_pos q]; exact go _ (by omega)
  · rw [if_neg q]; exact go _ (by omega)
theorem dvTp_l {m i : Int} (hm : -1000000000 < m ∧ m < 1000000000) (hi : -1000000000000000 < i ∧ i < 1000000000000000) : ((dvTp [] m i).length : Int) ≤ 50 := by
  unfold dvTp
  have a0 : ((([] : List Int).length : Nat) : Int) = 0 := rfl
  have a1 := dvL1 (L := []) (b := 80)
  have a2 := dvL1 (L := []) (b := 45)
  have a3 := dvL1 (L := [] ++ [45]) (b := 80)
  by_cases q : m < 0 ∧ 0 < i ∨ 0 < m ∧ i < 0
  · rw [if_pos q]
    have := dvTx_l hm hi
    omega
  rw [if_neg q]
  by_cases q2 : m < 0 ∨ i < 0
  · rw [if_pos q2]
    have := dvTs_l (L := [] ++ [45] ++ [80]) (m := -m) (i := -i) (by omega) (by omega)
    omega
  · rw [if_neg q2]
    have := dvTs_l (L := [] ++ [80]) (m := m) (i := i) (by omega) (by omega)
    omega
theorem dvHr_l {bt : Int → Int} {v : Int} : ∀ (j : Nat) (k : Int) (L : List Int), ((dvHr bt v j k L).length : Int) = L.length + 2 * j
  | 0, k, L => by rw [dvHr]; omega
  | j + 1, k, L => by
    rw [dvHr, dvHr_l j, dvL1, dvL1]; omega
theorem dvBr_l {bt : Int → Int} {v n : Int} : ∀ (j : Nat) (k : Int) (L : List Int), ((dvBr bt v n j k L).length : Int) ≤ L.length + 4 * j
  | 0, k, L => by rw [dvBr]; omega
  | j + 1, k, L => by
    rw [dvBr]
    by_cases q : n ≤ k
    · rw [if_pos q]; omega
    · rw [if_neg q]
      have ih := dvBr_l (bt := bt) (v := v) (n := n) j (k + 3) (dvBg (bt (20 * v + k)) (if n - k ≤ 1 then 0 else bt (20 * v + k + 1)) (if n - k ≤ 2 then 0 else bt (20 * v + k + 2)) (n - k) L)
      have l4 : ∀ a b c lf : Int, ((dvBg a b c lf L).length : Int) = L.length + 4 := fun a b c lf => by unfold dvBg; rw [dvL1, dvL1, dvL1, dvL1]; omega
      rw [l4] at ih
      omega
theorem dvTw_l {x : Int} : ((dvTw [] x).length : Int) ≤ 5 := by
  unfold dvTw
  by_cases q : x = 0
  · rw [if_pos q, List.length_append, dvWd_l]; decide
  · rw [if_neg q, List.length_append, dvWd_l]; decide
theorem dvTl_l {c v : Int} {kd on tw bt : Int → Int} (V : dvVs c kd on tw bt) (h : 0 ≤ v ∧ v < c) : ((dvTl kd on tw bt v).length : Int) ≤ 80 := by
  have V1 := (V.2 v h.1 h.2).1
  unfold dvOv at V1
  have a0 : ((([] : List Int).length : Nat) : Int) = 0 := rfl
  unfold dvTl
  by_cases k3 : kd v = 3
  · rw [if_pos k3]
    have := dvTw_l (x := if on v = 1 then 1 else 0)
    omega
  rw [if_neg k3]
  by_cases k4 : kd v = 4 ∨ kd v = 5
  · rw [if_pos k4]
    have T := V1.2.2.2.1 k4
    have := dvTt_l (k := kd v) T.1 T.2
    omega
  rw [if_neg k4]
  by_cases k6 : kd v = 6
  · rw [if_pos k6]
    have T := V1.2.2.2.2.1 k6
    have := dvTp_l T.1 T.2
    omega
  rw [if_neg k6]
  by_cases k7 : kd v = 7
  · rw [if_pos k7]
    have T := (V1.2.2.2.2.2 (by omega)).1
    have := dvHr_l (bt := bt) (v := v) (on v).toNat 0 []
    omega
  rw [if_neg k7]
  by_cases k8 : kd v = 8
  · rw [if_pos k8]
    have := dvBr_l (bt := bt) (v := v) (n := on v) 8 0 []
    omega
  rw [if_neg k8]
  have T := V1.2.1 (by omega)
  have b1 := dvNm_l (L := []) (v := on v) (least := 1) 9 (by omega) (by decide) (by decide)
  have b2 := dvL1 (L := dvNm [] (on v) 1) (b := 47)
  have b3 := dvNm_l (L := dvNm [] (on v) 1 ++ [47]) (v := tw v) (least := 1) 9 (by omega) (by decide) (by decide)
  by_cases q : tw v = 1
  · rw [if_pos q]; omega
  · rw [if_neg q]; omega
end
/-- the component (room DV) is in state S -/
def dqIC (kd : Nat → Nat) (an : Nat → Nat) (ai : Nat → Int → Int) (al : Nat → Int → Int) (ar : Nat → Int → Option Nat) (mX6_tape : Nat → Option Nat) (mX6_size : Nat → Int) (mX6_values : Nat → Option Nat) (mX6_count : Nat → Int) (mX6_writer : Nat → Option Nat) (mX7_bytes : Nat → Option Nat) (mX7_size : Nat → Int) (mX67_tape : Nat → Option Nat) (mX67_size : Nat → Int) (mX67_at : Nat → Int) (mX67_wrong : Nat → Option Nat) (mX67_place : Nat → Int) (mX68_kind : Nat → Int) (mX69_upper : Nat → Int) (mX69_lower : Nat → Int) (mX70_is : Nat → Int) (mX72_millis : Nat → Int) (mX72_zone : Nat → Int) (mX73_months : Nat → Int) (mX73_millis : Nat → Int) (mX74_bytes : Nat → Option Nat) (x : Nat) (S : dvS) : Prop := ∃ qt qv wr qw tp sz c kn on tw bt os o o1, dvC (kd, an, ai, al, ar, mX6_tape, mX6_size, mX6_values, mX6_count, mX6_writer, mX7_bytes, mX7_size, mX67_tape, mX67_size, mX67_at, mX67_wrong, mX67_place, mX68_kind, mX69_upper, mX69_lower, mX70_is, mX72_millis, mX72_zone, mX73_months, mX73_millis, mX74_bytes) x qt qv wr qw tp sz c kn on tw bt os o1 ∧ dvT tp ∧ dvVs c kn on tw bt ∧ (0 ≤ sz ∧ sz ≤ 64) ∧ os ≤ 80 ∧ (∀ i, 0 ≤ i → i < os → o1 i = o i) ∧ S = ((tp, sz), (c, kn, on, tw, bt), os, o)
section
variable {kd : Nat → Nat} {an : Nat → Nat} {ai : Nat → Int → Int} {al : Nat → Int → Int} {ar : Nat → Int → Option Nat} {mX6_tape : Nat → Option Nat} {mX6_size : Nat → Int} {mX6_values : Nat → Option Nat} {mX6_count : Nat → Int} {mX6_writer : Nat → Option Nat} {mX7_bytes : Nat → Option Nat} {mX7_size : Nat → Int} {mX67_tape : Nat → Option Nat} {mX67_size : Nat → Int} {mX67_at : Nat → Int} {mX67_wrong : Nat → Option Nat} {mX67_place : Nat → Int} {mX68_kind : Nat → Int} {mX69_upper : Nat → Int} {mX69_lower : Nat → Int} {mX70_is : Nat → Int} {mX72_millis : Nat → Int} {mX72_zone : Nat → Int} {mX73_months : Nat → Int} {mX73_millis : Nat → Int} {mX74_bytes : Nat → Option Nat} {sa : Nat → Nat} {so : kSo} {x : Nat} {S : dvS} {a b v i n op X kind : Int} {MC MS : Nat}
theorem QDV_type {post : Int → (Nat → Int → Int) → (Nat → Int) → Prop} (R : dqIC kd an ai al ar mX6_tape mX6_size mX6_values mX6_count mX6_writer mX7_bytes mX7_size mX67_tape mX67_size mX67_at mX67_wrong mX67_place mX68_kind mX69_upper mX69_lower mX70_is mX72_millis mX72_zone mX73_months mX73_millis mX74_bytes x S) (h : ∀ ai' sz', dqIC kd an (ai') al ar mX6_tape (sz') mX6_values mX6_count mX6_writer mX7_bytes mX7_size mX67_tape mX67_size mX67_at mX67_wrong mX67_place mX68_kind mX69_upper mX69_lower mX70_is mX72_millis mX72_zone mX73_months mX73_millis mX74_bytes x ((dqType X n S).2) → post (dqType X n S).1 ai' sz') : wpDV_X6_type post kd an ai mX6_tape mX6_size x X n := by
  obtain ⟨qt, qv, wr, qw, tp, sz, c, kn, on, tw, bt, os, o, o1, C, hT, V, hsz, hos, ho, rfl⟩ := R
  refine CDV_type C hsz (fun f => ?_) (fun f z => ?_) (fun f z C' => ?_)
  · have e : dqType X n ((tp, sz), (c, kn, on, tw, bt), os, o) = (-1, ((tp, sz), (c, kn, on, tw, bt), os, o)) := if_neg f
    rw [e] at h
    exact h _ _ ⟨_, _, _, _, _, _, _, _, _, _, _, _, _, _, C, hT, V, hsz, hos, ho, rfl⟩
  · have e : dqType X n ((tp, sz), (c, kn, on, tw, bt), os, o) = (-3, ((tp, sz), (c, kn, on, tw, bt), os, o)) := (if_pos f).trans (if_pos z)
    rw [e] at h
    exact h _ _ ⟨_, _, _, _, _, _, _, _, _, _, _, _, _, _, C, hT, V, hsz, hos, ho, rfl⟩
  · have e : dqType X n ((tp, sz), (c, kn, on, tw, bt), os, o) = (sz + n, ((dvTq tp sz X n n, sz + n), (c, kn, on, tw, bt), os, o)) := (if_pos f).trans (if_neg (by omega))
    rw [e] at h
    exact h _ _ ⟨_, _, _, _, _, _, _, _, _, _, _, _, _, _, C', hT.tq, V, ⟨by omega, z⟩, hos, ho, rfl⟩
theorem QDV_read {post : Int → (Nat → Nat) → (Nat → Nat) → (Nat → Int → Int) → (Nat → Int → Option Nat) → (Nat → Int) → (Nat → Int) → (Nat → Option Nat) → (Nat → Int) → (Nat → Int) → (Nat → Option Nat) → (Nat → Int) → (Nat → Int) → (Nat → Int) → (Nat → Int) → (Nat → Int) → (Nat → Int) → (Nat → Int) → (Nat → Int) → (Nat → Int) → (Nat → Option Nat) → Prop} {px : Nat → (Nat → Nat) → (Nat → Nat) → (Nat → Int → Int) → (Nat → Int → Option Nat) → (Nat → Int) → (Nat → Int) → (Nat → Option Nat) → (Nat → Int) → (Nat → Int) → (Nat → Option Nat) → (Nat → Int) → (Nat → Int) → (Nat → Int) → (Nat → Int) → (Nat → Int) → (Nat → Int) → (Nat → Int) → (Nat → Int) → (Nat → Int) → (Nat → Option Nat) → Prop} (R : dqIC kd an ai al ar mX6_tape mX6_size mX6_values mX6_count mX6_writer mX7_bytes mX7_size mX67_tape mX67_size mX67_at mX67_wrong mX67_place mX68_kind mX69_upper mX69_lower mX70_is mX72_millis mX72_zone mX73_months mX73_millis mX74_bytes x S) (hM : 5 ≤ MC ∧ 61 ≤ MS) (T1 : txS so (sa 257) (dvWd 1953658213 4)) (T2 : txS so (sa 258) (dvWd 439721161573 5)) (T3 : txS so (sa 259) (dvWd 5852484 3)) (T4 : txS so (sa 260) (dvWd 4738387 3)) (T5 : txS so (sa 261) dvLL) (h : ∀ v0 v1 v2 v3 v4 v5 v6 v7 v8 v9 v10 v11 v12 v13 v14 v15 v16 v17 v18 v19, dqIC v0 v1 v2 al v3 mX6_tape v4 mX6_values v5 mX6_writer mX7_bytes mX7_size v6 v7 v8 v9 v10 v11 v12 v13 v14 v15 v16 v17 v18 v19 x ((dqRead kind S).2) → post (dqRead kind S).1 v0 v1 v2 v3 v4 v5 v6 v7 v8 v9 v10 v11 v12 v13 v14 v15 v16 v17 v18 v19) : wpDV_X6_read MC MS post px kd an ai ar mX6_tape mX6_size mX6_values mX6_count mX67_tape mX67_size mX67_at mX67_wrong mX67_place mX68_kind mX69_upper mX69_lower mX70_is mX72_millis mX72_zone mX73_months mX73_millis mX74_bytes sa so x kind := by
  obtain ⟨qt, qv, wr, qw, tp, sz, c, kn, on, tw, bt, os, o, o1, C, hT, V, hsz, hos, ho, rfl⟩ := R
  refine CDV_read hT hM C V hsz T1 T2 T3 T4 T5 (fun f => ?_) (fun f z kd an ai mX6_size mX67_tape mX67_size mX67_at mX67_wrong mX67_place mX68_kind mX69_upper mX69_lower mX70_is mX72_millis mX72_zone mX73_months mX73_millis mX74_bytes C' => ?_) (fun f z z2 kd an ai mX6_size mX67_tape mX67_size mX67_at mX67_wrong mX67_place mX68_kind mX69_upper mX69_lower mX70_is mX72_millis mX72_zone mX73_months mX73_millis mX74_bytes C' => ?_) (fun f z z2 kd an ai ar mX6_size mX6_count mX67_tape mX67_size mX67_at mX67_wrong mX67_place mX68_kind mX69_upper mX69_lower mX70_is mX72_millis mX72_zone mX73_months mX73_millis mX74_bytes C' => ?_)
  · have e : dqRead kind ((tp, sz), (c, kn, on, tw, bt), os, o) = (-1, ((tp, sz), (c, kn, on, tw, bt), os, o)) := if_neg f
    rw [e] at h
    exact h _ _ _ _ _ _ _ _ _ _ _ _ _ _ _ _ _ _ _ _ ⟨_, _, _, _, _, _, _, _, _, _, _, _, _, _, C, hT, V, hsz, hos, ho, rfl⟩
  · have e : dqRead kind ((tp, sz), (c, kn, on, tw, bt), os, o) = (-10 - (dvRv tp sz kind).1, ((tp, 0), (c, kn, on, tw, bt), os, o)) := (if_pos f).trans (if_pos z)
    rw [e] at h
    exact h _ _ _ _ _ _ _ _ _ _ _ _ _ _ _ _ _ _ _ _ ⟨_, _, _, _, _, _, _, _, _, _, _, _, _, _, C', hT, V, ⟨Int.le_refl _, by decide⟩, hos, ho, rfl⟩
  · have e : dqRead kind ((tp, sz), (c, kn, on, tw, bt), os, o) = (-3, ((tp, 0), (c, kn, on, tw, bt), os, o)) := (if_pos f).trans ((if_neg (by omega)).trans (if_pos z2))
    rw [e] at h
    exact h _ _ _ _ _ _ _ _ _ _ _ _ _ _ _ _ _ _ _ _ ⟨_, _, _, _, _, _, _, _, _, _, _, _, _, _, C', hT, V, ⟨Int.le_refl _, by decide⟩, hos, ho, rfl⟩
  · have e : dqRead kind ((tp, sz), (c, kn, on, tw, bt), os, o) = (c, ((tp, 0), (c + 1, updI kn c kind, updI on c (if kind ≤ 6 then (dvRv tp sz kind).2.1 else (dvRv tp sz kind).2.2.2.1), updI tw c (if kind = 3 ∨ 6 < kind then 0 else (dvRv tp sz kind).2.2.1), dvBu bt c (dvRv tp sz kind).2.2.2.1 (dvRv tp sz kind).2.2.2.2), os, o)) := (if_pos f).trans ((if_neg (by omega)).trans (if_neg (by omega)))
    rw [e] at h
    exact h _ _ _ _ _ _ _ _ _ _ _ _ _ _ _ _ _ _ _ _ ⟨_, _, _, _, _, _, _, _, _, _, _, _, _, _, C', hT, dvVs_read hT f z V z2, ⟨Int.le_refl _, by decide⟩, hos, ho, rfl⟩
theorem QDV_values {post : Int → Prop} (R : dqIC kd an ai al ar mX6_tape mX6_size mX6_values mX6_count mX6_writer mX7_bytes mX7_size mX67_tape mX67_size mX67_at mX67_wrong mX67_place mX68_kind mX69_upper mX69_lower mX70_is mX72_millis mX72_zone mX73_months mX73_millis mX74_bytes x S) (h : post (dqValues S)) : wpDV_X6_values post mX6_count x  := by
  obtain ⟨qt, qv, wr, qw, tp, sz, c, kn, on, tw, bt, os, o, o1, C, hT, V, hsz, hos, ho, rfl⟩ := R
  exact CDV_values C h
theorem QDV_kind {post : Int → Prop} (R : dqIC kd an ai al ar mX6_tape mX6_size mX6_values mX6_count mX6_writer mX7_bytes mX7_size mX67_tape mX67_size mX67_at mX67_wrong mX67_place mX68_kind mX69_upper mX69_lower mX70_is mX72_millis mX72_zone mX73_months mX73_millis mX74_bytes x S) (h : post (dqKind v S)) : wpDV_X6_kind post kd an ar mX6_values mX6_count mX68_kind x v := by
  obtain ⟨qt, qv, wr, qw, tp, sz, c, kn, on, tw, bt, os, o, o1, C, hT, V, hsz, hos, ho, rfl⟩ := R
  exact CDV_kind C V h
theorem QDV_part {post : Int → Prop} (R : dqIC kd an ai al ar mX6_tape mX6_size mX6_values mX6_count mX6_writer mX7_bytes mX7_size mX67_tape mX67_size mX67_at mX67_wrong mX67_place mX68_kind mX69_upper mX69_lower mX70_is mX72_millis mX72_zone mX73_months mX73_millis mX74_bytes x S) (h : post (dqPart v i S)) : wpDV_X6_part post kd an ar mX6_values mX6_count mX69_upper mX69_lower mX70_is mX72_millis mX72_zone mX73_months mX73_millis mX74_bytes x v i := by
  obtain ⟨qt, qv, wr, qw, tp, sz, c, kn, on, tw, bt, os, o, o1, C, hT, V, hsz, hos, ho, rfl⟩ := R
  exact CDV_part C V h
theorem QDV_byteOf {post : Int → Prop} (R : dqIC kd an ai al ar mX6_tape mX6_size mX6_values mX6_count mX6_writer mX7_bytes mX7_size mX67_tape mX67_size mX67_at mX67_wrong mX67_place mX68_kind mX69_upper mX69_lower mX70_is mX72_millis mX72_zone mX73_months mX73_millis mX74_bytes x S) (h : post (dqByteOf v i S)) : wpDV_X6_byteOf post kd an ai ar mX6_values mX6_count mX74_bytes x v i := by
  obtain ⟨qt, qv, wr, qw, tp, sz, c, kn, on, tw, bt, os, o, o1, C, hT, V, hsz, hos, ho, rfl⟩ := R
  exact CDV_byteOf C V h
theorem QDV_told {post : Int → Prop} (R : dqIC kd an ai al ar mX6_tape mX6_size mX6_values mX6_count mX6_writer mX7_bytes mX7_size mX67_tape mX67_size mX67_at mX67_wrong mX67_place mX68_kind mX69_upper mX69_lower mX70_is mX72_millis mX72_zone mX73_months mX73_millis mX74_bytes x S) (h : post (dqTold i S)) : wpDV_X6_told post kd an ai mX6_writer mX7_bytes mX7_size x i := by
  obtain ⟨qt, qv, wr, qw, tp, sz, c, kn, on, tw, bt, os, o, o1, C, hT, V, hsz, hos, ho, rfl⟩ := R
  refine CDV_told C hos ?_
  have e : dqTold i ((tp, sz), (c, kn, on, tw, bt), os, o) = if 0 ≤ i ∧ i < os then o1 i else -1 := by
    show (if 0 ≤ i ∧ i < os then o i else -1) = _
    by_cases f : 0 ≤ i ∧ i < os
    · rw [if_pos f, if_pos f, ho i f.1 f.2]
    · rw [if_neg f, if_neg f]
  rw [← e]
  exact h
theorem QDV_compare {post : Int → (Nat → Nat) → (Nat → Nat) → (Nat → Int → Int) → Prop} (R : dqIC kd an ai al ar mX6_tape mX6_size mX6_values mX6_count mX6_writer mX7_bytes mX7_size mX67_tape mX67_size mX67_at mX67_wrong mX67_place mX68_kind mX69_upper mX69_lower mX70_is mX72_millis mX72_zone mX73_months mX73_millis mX74_bytes x S) (hM : 8 ≤ MC ∧ 24 ≤ MS) (h : ∀ kd' an' ai', dqIC (kd') (an') (ai') al ar mX6_tape mX6_size mX6_values mX6_count mX6_writer mX7_bytes mX7_size mX67_tape mX67_size mX67_at mX67_wrong mX67_place mX68_kind mX69_upper mX69_lower mX70_is mX72_millis mX72_zone mX73_months mX73_millis mX74_bytes x S → post (dqCompare a b S) kd' an' ai') : wpDV_X6_compare MC MS post kd an ai ar mX6_values mX6_count mX68_kind mX69_upper mX69_lower mX70_is mX72_millis mX72_zone mX73_months mX73_millis mX74_bytes x a b := by
  obtain ⟨qt, qv, wr, qw, tp, sz, c, kn, on, tw, bt, os, o, o1, C, hT, V, hsz, hos, ho, rfl⟩ := R
  exact CDV_compare hM C V (fun kd' an' ai' K => h _ _ _ ⟨_, _, _, _, _, _, _, _, _, _, _, _, _, _, C.kp V K, hT, V, hsz, hos, ho, rfl⟩)
theorem QDV_apply {post : Int → (Nat → Nat) → (Nat → Nat) → (Nat → Int → Int) → (Nat → Int → Option Nat) → (Nat → Int) → (Nat → Int) → (Nat → Int) → (Nat → Int) → (Nat → Int) → (Nat → Int) → (Nat → Int) → (Nat → Int) → Prop} (R : dqIC kd an ai al ar mX6_tape mX6_size mX6_values mX6_count mX6_writer mX7_bytes mX7_size mX67_tape mX67_size mX67_at mX67_wrong mX67_place mX68_kind mX69_upper mX69_lower mX70_is mX72_millis mX72_zone mX73_months mX73_millis mX74_bytes x S) (hM : 2 ≤ MC ∧ 6 ≤ MS) (h : ∀ kd' an' ai' ar' m1 m2 m3 m4 m5 m6 m7 m8, dqIC (kd') (an') (ai') al (ar') mX6_tape mX6_size mX6_values m1 mX6_writer mX7_bytes mX7_size mX67_tape mX67_size mX67_at mX67_wrong mX67_place m2 m3 m4 mX70_is m5 m6 m7 m8 mX74_bytes x ((dqApply op a b S).2) → post (dqApply op a b S).1 kd' an' ai' ar' m1 m2 m3 m4 m5 m6 m7 m8) : wpDV_X6_apply MC MS post kd an ai ar mX6_values mX6_count mX68_kind mX69_upper mX69_lower mX72_millis mX72_zone mX73_months mX73_millis x op a b := by
  obtain ⟨qt, qv, wr, qw, tp, sz, c, kn, on, tw, bt, os, o, o1, C, hT, V, hsz, hos, ho, rfl⟩ := R
  refine CDV_apply hM C V ⟨fun z kd an ai ar mX6_count mX68_kind mX69_upper mX69_lower mX72_millis mX72_zone mX73_months mX73_millis C' => ?_, fun z z2 kd an ai ar mX6_count mX68_kind mX69_upper mX69_lower mX72_millis mX72_zone mX73_months mX73_millis C' => ?_, fun z z2 kd an ai ar mX6_count mX68_kind mX69_upper mX69_lower mX72_millis mX72_zone mX73_months mX73_millis C' => ?_⟩
  · have e : dqApply op a b ((tp, sz), (c, kn, on, tw, bt), os, o) = ((dvAp kn on tw c op a b).1, ((tp, sz), (c, kn, on, tw, bt), os, o)) := if_pos z
    rw [e] at h
    exact h _ _ _ _ _ _ _ _ _ _ _ _ ⟨_, _, _, _, _, _, _, _, _, _, _, _, _, _, C', hT, V, hsz, hos, ho, rfl⟩
  · have e : dqApply op a b ((tp, sz), (c, kn, on, tw, bt), os, o) = (-3, ((tp, sz), (c, kn, on, tw, bt), os, o)) := (if_neg (by omega)).trans (if_pos z2)
    rw [e] at h
    exact h _ _ _ _ _ _ _ _ _ _ _ _ ⟨_, _, _, _, _, _, _, _, _, _, _, _, _, _, C', hT, V, hsz, hos, ho, rfl⟩
  · have e : dqApply op a b ((tp, sz), (c, kn, on, tw, bt), os, o) = (c, ((tp, sz), (c + 1, updI kn c (dvAp kn on tw c op a b).2.1, updI on c (dvAp kn on tw c op a b).2.2.1, updI tw c (dvAp kn on tw c op a b).2.2.2, bt), os, o)) := (if_neg (by omega)).trans (if_neg (by omega))
    rw [e] at h
    exact h _ _ _ _ _ _ _ _ _ _ _ _ ⟨_, _, _, _, _, _, _, _, _, _, _, _, _, _, C', hT, dvVs_apply V z2 z, hsz, hos, ho, rfl⟩
theorem QDV_tell {post : Int → (Nat → Nat) → (Nat → Nat) → (Nat → Int → Int) → (Nat → Int) → Prop} (R : dqIC kd an ai al ar mX6_tape mX6_size mX6_values mX6_count mX6_writer mX7_bytes mX7_size mX67_tape mX67_size mX67_at mX67_wrong mX67_place mX68_kind mX69_upper mX69_lower mX70_is mX72_millis mX72_zone mX73_months mX73_millis mX74_bytes x S) (hM : 1 ≤ MC ∧ 3 ≤ MS) (T1 : txS so (sa 262) dvHL) (T2 : txS so (sa 263) dvLL) (T3 : txS so (sa 264) [77, 84]) (T4 : txS so (sa 265) (dvWd 1953658213 4)) (T5 : txS so (sa 266) (dvWd 439721161573 5)) (h : ∀ kd' an' ai' s7, dqIC (kd') (an') (ai') al ar mX6_tape mX6_size mX6_values mX6_count mX6_writer mX7_bytes s7 mX67_tape mX67_size mX67_at mX67_wrong mX67_place mX68_kind mX69_upper mX69_lower mX70_is mX72_millis mX72_zone mX73_months mX73_millis mX74_bytes x ((dqTell v S).2) → post (dqTell v S).1 kd' an' ai' s7) : wpDV_X6_tell MC MS post kd an ai ar mX6_values mX6_count mX6_writer mX7_bytes mX7_size mX68_kind mX69_upper mX69_lower mX70_is mX72_millis mX72_zone mX73_months mX73_millis mX74_bytes sa so x v := by
  obtain ⟨qt, qv, wr, qw, tp, sz, c, kn, on, tw, bt, os, o, o1, C, hT, V, hsz, hos, ho, rfl⟩ := R
  refine CDV_tell hM C V T1 T2 T3 T4 T5 (fun f => ?_) (fun f kd' an' ai' s7 C' => ?_)
  · have e : dqTell v ((tp, sz), (c, kn, on, tw, bt), os, o) = (-1, ((tp, sz), (c, kn, on, tw, bt), os, o)) := if_neg f
    rw [e] at h
    exact h _ _ _ _ ⟨_, _, _, _, _, _, _, _, _, _, _, _, _, _, C, hT, V, hsz, hos, ho, rfl⟩
  · have e : dqTell v ((tp, sz), (c, kn, on, tw, bt), os, o) = (((dvTl kn on tw bt v).length : Int), ((tp, sz), (c, kn, on, tw, bt), ((dvTl kn on tw bt v).length : Int), dvPo (fun _ => 0) (dvTl kn on tw bt v))) := if_pos f
    rw [e] at h
    exact h _ _ _ _ ⟨_, _, _, _, _, _, _, _, _, _, _, _, _, _, C', hT, V, hsz, dvTl_l V f, fun i i0 i1 => dvPo_c ⟨i0, i1⟩, rfl⟩
end
