set_option maxRecDepth 100000
/-! pure law 24: pupils -/
abbrev rgt (a l d : Nat) : Prop := l + a * d ≤ 100
def agr (S : St) (p a l : Nat) : Nat → Nat
  | 0 => 0
  | k + 1 => agr S p a l k + if (if rgt a l (S.2 36 (12 * p + k)) then 1 else 0) = S.2 37 (12 * p + k) then 1 else 0
theorem agr_le (S : St) (p a l : Nat) : ∀ n, agr S p a l n ≤ n
  | 0 => Nat.le_refl _
  | k + 1 => by
    have := agr_le S p a l k
    show agr S p a l k + (if _ then 1 else 0) ≤ k + 1
    repeat' split
    all_goals omega
theorem Good.pm {S : St} (g : Good S) {p : Nat} (hp : p < 4) : S.2 35 p ≤ 12 := g.2.2.2.2.2.2.2.2.2.2.2.2.2.2.1 p hp
theorem Good.pd {S : St} (g : Good S) {k : Nat} (hk : k < 48) : S.2 36 k ≤ 60 ∧ S.2 37 k ≤ 1 := g.2.2.2.2.2.2.2.2.2.2.2.2.2.2.2.1 k hk
theorem sub_lt {x l : Nat} (hx : x < 1000000) (hl : l < 1000000) : (nI 100 - nI x < nI l) = (100 < l + x) := by
  apply propext
  rw [Int32.lt_iff_toInt_lt, i_lt (by omega) (by omega) _ rfl, tI (by omega)]
  omega
theorem ad_b {a d : Nat} (ha : a ≤ 9) (hd : d ≤ 60) : a * d ≤ 540 := Nat.mul_le_mul ha hd
theorem x9_right {σ : Hp} {a l d : Nat} (ha : a ≤ 9) (hl : l ≤ 90) (hd : d ≤ 60) : F_X9_isRight σ (nI a) (nI l) (nI d) = some (if rgt a l d then nI 1 else nI 0, σ) := by
  have b := ad_b ha hd
  by_cases q : rgt a l d
  · have q' : l + a * d ≤ 100 := q
    rw [if_pos q]
    simp (decide := true) (disch := omega) only [F_X9_isRight, b1_some, b2_some, litI, neg1, nI_add, nI_mul, e1_p1, nI_e0, ib, ib1, ite_not, if_true, if_false, not_true_eq_false, not_false_eq_true, setI_hv, sub_lt, show ¬ 100 < l + a * d by omega]
  · have q' : ¬ l + a * d ≤ 100 := q
    rw [if_neg q]
    simp (decide := true) (disch := omega) only [F_X9_isRight, b1_some, b2_some, litI, neg1, nI_add, nI_mul, e1_p1, nI_e0, ib, ib1, ite_not, if_true, if_false, not_true_eq_false, not_false_eq_true, setI_hv, sub_lt, show 100 < l + a * d by omega]
theorem x10_right {σ : Hp} {t d : Nat} (ht : t < 81) (hd : d ≤ 60) : F_X10_isRight σ (nI t) (nI d) = some (if rgt (t / 9 + 1) (10 * (t % 9 + 1)) d then nI 1 else nI 0, σ) := by
  have b := ad_b (a := t / 9 + 1) (by omega) hd
  have d9 : nI t / nI 9 = nI (t / 9) := pk_div (by omega) (by omega) (by omega)
  have r9 : nI t - nI (t / 9 * 9) = nI (t % 9) := by
    rw [← nI_mul, ← d9]
    exact pk_rem (by omega) (by omega) (by omega)
  by_cases q : rgt (t / 9 + 1) (10 * (t % 9 + 1)) d
  · have q' : 10 * (t % 9 + 1) + (t / 9 + 1) * d ≤ 100 := q
    rw [if_pos q]
    simp (decide := true) (disch := omega) only [F_X10_isRight, b1_some, b2_some, litI, neg1, nI_add, nI_mul, e1_p1, nI_e0, ib, ib1, ite_not, if_true, if_false, not_true_eq_false, not_false_eq_true, setI_hv, d9, r9, sub_lt, show ¬ 100 < 10 * (t % 9 + 1) + (t / 9 + 1) * d by omega]
  · have q' : ¬ 10 * (t % 9 + 1) + (t / 9 + 1) * d ≤ 100 := q
    rw [if_neg q]
    simp (decide := true) (disch := omega) only [F_X10_isRight, b1_some, b2_some, litI, neg1, nI_add, nI_mul, e1_p1, nI_e0, ib, ib1, ite_not, if_true, if_false, not_true_eq_false, not_false_eq_true, setI_hv, d9, r9, sub_lt, show 100 < 10 * (t % 9 + 1) + (t / 9 + 1) * d by omega]
theorem x_agr {N : Nat} {σ : Hp} {f : Nat → Nat → Int32} {S : St} (g : Good S) (h : RepX N (hv σ f) S) {p a l : Nat} (hp : p < 4) (ha : a ≤ 9) (hl : l ≤ 90) : F_X9_agrees (hv σ f) (N + (233 + 3 * p)) (nI a) (nI l) = some (nI (agr S p a l (S.2 35 p)), hv σ f) := by
  have s : SX N σ := h.1
  have pm := g.pm hp
  unfold F_X9_agrees L_X9_agrees_5
  rw [s.PG hp]
  obtain ⟨m, hm⟩ := it_FU (body := fun rec st => B_X9_agrees_5 (N + (233 + 3 * p)) (nI a) (nI l) rec st.1 st.2.1 st.2.2) (fun k => (hv σ f, nI (agr S p a l k), nI k)) 0 (S.2 35 p) (by omega) (by omega) (fun k _ hk rec => by
    have b := g.pd (k := 12 * p + k) (by omega)
    have r := x9_right (σ := hv σ f) ha hl b.1
    show B_X9_agrees_5 (N + (233 + 3 * p)) (nI a) (nI l) rec (hv σ f) (nI (agr S p a l k)) (nI k) = rec (hv σ f, nI (agr S p a l k + if (if rgt a l (S.2 36 (12 * p + k)) then 1 else 0) = S.2 37 (12 * p + k) then 1 else 0), nI (k + 1))
    by_cases q : rgt a l (S.2 36 (12 * p + k))
    · rw [if_pos q] at r
      rw [if_pos q]
      by_cases q2 : 1 = S.2 37 (12 * p + k)
      · simp (decide := true) (disch := omega) only [B_X9_agrees_5, s.PI, s.PD, s.PR, s.APD, s.APR, b1_some, b2_some, litI, neg1, nI_add, nI_mul, e1_p1, nI_e0, ib, ib1, ite_not, if_true, if_false, not_true_eq_false, not_false_eq_true, setI_hv, h.a35, h.a36, h.a37, le_lit, eq_lit, show ¬ S.2 35 p ≤ k by omega, r, ← q2]
      · simp (decide := true) (disch := omega) only [B_X9_agrees_5, s.PI, s.PD, s.PR, s.APD, s.APR, b1_some, b2_some, litI, neg1, nI_add, nI_mul, e1_p1, nI_e0, ib, ib1, ite_not, if_true, if_false, not_true_eq_false, not_false_eq_true, setI_hv, h.a35, h.a36, h.a37, le_lit, eq_lit, show ¬ S.2 35 p ≤ k by omega, r, q2]
    · rw [if_neg q] at r
      rw [if_neg q]
      by_cases q2 : 0 = S.2 37 (12 * p + k)
      · simp (decide := true) (disch := omega) only [B_X9_agrees_5, s.PI, s.PD, s.PR, s.APD, s.APR, b1_some, b2_some, litI, neg1, nI_add, nI_mul, e1_p1, nI_e0, ib, ib1, ite_not, if_true, if_false, not_true_eq_false, not_false_eq_true, setI_hv, h.a35, h.a36, h.a37, le_lit, eq_lit, show ¬ S.2 35 p ≤ k by omega, r, ← q2]
      · simp (decide := true) (disch := omega) only [B_X9_agrees_5, s.PI, s.PD, s.PR, s.APD, s.APR, b1_some, b2_some, litI, neg1, nI_add, nI_mul, e1_p1, nI_e0, ib, ib1, ite_not, if_true, if_false, not_true_eq_false, not_false_eq_true, setI_hv, h.a35, h.a36, h.a37, le_lit, eq_lit, show ¬ S.2 35 p ≤ k by omega, r, q2])
  refine Eq.trans (b := it (fun rec st => B_X9_agrees_5 (N + (233 + 3 * p)) (nI a) (nI l) rec st.1 st.2.1 st.2.2) FU (hv σ f, nI (agr S p a l 0), nI 0)) rfl (hm.trans ?_)
  simp (decide := true) (disch := omega) only [B_X9_agrees_5, s.PI, b1_some, b2_some, litI, neg1, nI_add, nI_mul, e1_p1, nI_e0, ib, ib1, ite_not, if_true, if_false, not_true_eq_false, not_false_eq_true, setI_hv, h.a35, le_lit, Nat.le_refl]
theorem m_agr {M : Nat} {σ : Hp} {f : Nat → Nat → Int32} {S : St} (g : Good S) (h : RepM M (hv σ f) S) {p t : Nat} (hp : p < 4) (ht : t < 81) : F_X10_agrees (hv σ f) M (nI p) (nI t) = some (nI (agr S p (t / 9 + 1) (10 * (t % 9 + 1)) (S.2 35 p)), hv σ f) := by
  have s : SM M σ := h.1
  have pm := g.pm hp
  unfold F_X10_agrees L_X10_agrees_5
  rw [gd_hv s.1]
  obtain ⟨m, hm⟩ := it_FU (body := fun rec st => B_X10_agrees_5 M (nI p) (nI t) rec st.1 st.2.1 st.2.2) (fun k => (hv σ f, nI (agr S p (t / 9 + 1) (10 * (t % 9 + 1)) k), nI k)) 0 (S.2 35 p) (by omega) (by omega) (fun k _ hk rec => by
    have b := g.pd (k := 12 * p + k) (by omega)
    have r := x10_right (σ := hv σ f) ht b.1
    show B_X10_agrees_5 M (nI p) (nI t) rec (hv σ f) (nI (agr S p (t / 9 + 1) (10 * (t % 9 + 1)) k)) (nI k) = rec (hv σ f, nI (agr S p (t / 9 + 1) (10 * (t % 9 + 1)) k + if (if rgt (t / 9 + 1) (10 * (t % 9 + 1)) (S.2 36 (12 * p + k)) then 1 else 0) = S.2 37 (12 * p + k) then 1 else 0), nI (k + 1))
    by_cases q : rgt (t / 9 + 1) (10 * (t % 9 + 1)) (S.2 36 (12 * p + k))
    · rw [if_pos q] at r
      rw [if_pos q]
      by_cases q2 : 1 = S.2 37 (12 * p + k)
      · simp (decide := true) (disch := omega) only [B_X10_agrees_5, gd_hv s.1, gI_hv s.1, pI_hv s.1, s.R35, s.A35, s.W35, s.R36, s.A36, s.W36, s.R37, s.A37, s.W37, b1_some, b2_some, litI, neg1, nI_add, nI_mul, e1_p1, nI_e0, ib, ib1, ite_not, if_true, if_false, not_true_eq_false, not_false_eq_true, setI_hv, h.a35, h.a36, h.a37, le_lit, eq_lit, show ¬ S.2 35 p ≤ k by omega, r, ← q2]
      · simp (decide := true) (disch := omega) only [B_X10_agrees_5, gd_hv s.1, gI_hv s.1, pI_hv s.1, s.R35, s.A35, s.W35, s.R36, s.A36, s.W36, s.R37, s.A37, s.W37, b1_some, b2_some, litI, neg1, nI_add, nI_mul, e1_p1, nI_e0, ib, ib1, ite_not, if_true, if_false, not_true_eq_false, not_false_eq_true, setI_hv, h.a35, h.a36, h.a37, le_lit, eq_lit, show ¬ S.2 35 p ≤ k by omega, r, q2]
    · rw [if_neg q] at r
      rw [if_neg q]
      by_cases q2 : 0 = S.2 37 (12 * p + k)
      · simp (decide := true) (disch := omega) only [B_X10_agrees_5, gd_hv s.1, gI_hv s.1, pI_hv s.1, s.R35, s.A35, s.W35, s.R36, s.A36, s.W36, s.R37, s.A37, s.W37, b1_some, b2_some, litI, neg1, nI_add, nI_mul, e1_p1, nI_e0, ib, ib1, ite_not, if_true, if_false, not_true_eq_false, not_false_eq_true, setI_hv, h.a35, h.a36, h.a37, le_lit, eq_lit, show ¬ S.2 35 p ≤ k by omega, r, ← q2]
      · simp (decide := true) (disch := omega) only [B_X10_agrees_5, gd_hv s.1, gI_hv s.1, pI_hv s.1, s.R35, s.A35, s.W35, s.R36, s.A36, s.W36, s.R37, s.A37, s.W37, b1_some, b2_some, litI, neg1, nI_add, nI_mul, e1_p1, nI_e0, ib, ib1, ite_not, if_true, if_false, not_true_eq_false, not_false_eq_true, setI_hv, h.a35, h.a36, h.a37, le_lit, eq_lit, show ¬ S.2 35 p ≤ k by omega, r, q2])
  refine Eq.trans (b := it (fun rec st => B_X10_agrees_5 M (nI p) (nI t) rec st.1 st.2.1 st.2.2) FU (hv σ f, nI (agr S p (t / 9 + 1) (10 * (t % 9 + 1)) 0), nI 0)) rfl (hm.trans ?_)
  simp (decide := true) (disch := omega) only [B_X10_agrees_5, gd_hv s.1, gI_hv s.1, pI_hv s.1, s.R35, s.A35, s.W35, b1_some, b2_some, litI, neg1, nI_add, nI_mul, e1_p1, nI_e0, ib, ib1, ite_not, if_true, if_false, not_true_eq_false, not_false_eq_true, setI_hv, h.a35, le_lit, Nat.le_refl]
/-! how many tables may be; the likeliest -/
def agt (S : St) (p t : Nat) : Nat := agr S p (t / 9 + 1) (10 * (t % 9 + 1)) (S.2 35 p)
theorem agt_le {S : St} (g : Good S) {p : Nat} (hp : p < 4) (t : Nat) : agt S p t ≤ 12 := Nat.le_trans (agr_le S p _ _ _) (g.pm hp)
def mbn (S : St) (p : Nat) : Nat → Nat
  | 0 => 0
  | t + 1 => mbn S p t + if agt S p t = S.2 35 p then 1 else 0
theorem mbn_le (S : St) (p : Nat) : ∀ n, mbn S p n ≤ n
  | 0 => Nat.le_refl _
  | t + 1 => by
    have := mbn_le S p t
    show mbn S p t + (if _ then 1 else 0) ≤ t + 1
    split <;> omega
theorem agt_at (S : St) (p i j : Nat) (hj : j < 9) : agt S p (9 * i + j) = agr S p (i + 1) (10 * (j + 1)) (S.2 35 p) := by
  unfold agt
  rw [show (9 * i + j) / 9 = i by omega, show (9 * i + j) % 9 = j by omega]
theorem x_may {N : Nat} {σ : Hp} {f : Nat → Nat → Int32} {S : St} (g : Good S) (h : RepX N (hv σ f) S) {p : Nat} (hp : p < 4) : F_X9_mayBe (hv σ f) (N + (233 + 3 * p)) = some (nI (mbn S p 81), hv σ f) := by
  have s : SX N σ := h.1
  have pm := g.pm hp
  unfold F_X9_mayBe L_X9_mayBe_4
  rw [s.PG hp]
  obtain ⟨m, hm⟩ := it_FU (body := fun rec st => B_X9_mayBe_4 (N + (233 + 3 * p)) rec st.1 st.2.1 st.2.2) (fun i => (hv σ f, nI (mbn S p (9 * i)), nI (i + 1))) 0 9 (by omega) (by omega) (fun i _ hi rec => by
    obtain ⟨m', hm'⟩ := it_FU (body := fun rec' st => B_X9_mayBe_13 rec (N + (233 + 3 * p)) (nI (i + 1)) rec' st.1 st.2.1 st.2.2) (fun j => (hv σ f, nI (mbn S p (9 * i + j)), nI (10 * (j + 1)))) 0 9 (by omega) (by omega) (fun j _ hj rec' => by
      have ag := x_agr g h (a := i + 1) (l := 10 * (j + 1)) hp (by omega) (by omega)
      rw [← agt_at S p i j hj] at ag
      have al := agt_le g hp (9 * i + j)
      show B_X9_mayBe_13 rec (N + (233 + 3 * p)) (nI (i + 1)) rec' (hv σ f) (nI (mbn S p (9 * i + j))) (nI (10 * (j + 1))) = rec' (hv σ f, nI (mbn S p (9 * i + j) + if agt S p (9 * i + j) = S.2 35 p then 1 else 0), nI (10 * (j + 1 + 1)))
      rw [show 10 * (j + 1 + 1) = 10 * (j + 1) + 10 by omega]
      by_cases q : agt S p (9 * i + j) = S.2 35 p
      · simp (decide := true) (disch := omega) only [B_X9_mayBe_13, s.PI, b1_some, b2_some, litI, neg1, nI_add, nI_mul, e1_p1, nI_e0, ib, ib1, ite_not, if_true, if_false, not_true_eq_false, not_false_eq_true, setI_hv, h.a35, lt_lit, show ¬ 90 < 10 * (j + 1) by omega, ag, q]
      · simp (decide := true) (disch := omega) only [B_X9_mayBe_13, s.PI, b1_some, b2_some, litI, neg1, nI_add, nI_mul, e1_p1, nI_e0, ib, ib1, ite_not, if_true, if_false, not_true_eq_false, not_false_eq_true, setI_hv, h.a35, lt_lit, eq_lit, show ¬ 90 < 10 * (j + 1) by omega, ag, q])
    have lp : L_X9_mayBe_13 rec (N + (233 + 3 * p)) (nI (i + 1)) FU (hv σ f, nI (mbn S p (9 * i)), nI 10) = rec (hv σ f, nI (mbn S p (9 * (i + 1))), nI (i + 1 + 1)) := by
      refine hm'.trans ?_
      show B_X9_mayBe_13 rec (N + (233 + 3 * p)) (nI (i + 1)) m' (hv σ f) (nI (mbn S p (9 * i + 9))) (nI (10 * (9 + 1))) = _
      rw [show 9 * (i + 1) = 9 * i + 9 by omega]
      simp (decide := true) (disch := omega) only [B_X9_mayBe_13, b1_some, b2_some, litI, neg1, nI_add, nI_mul, e1_p1, nI_e0, ib, ib1, ite_not, if_true, if_false, not_true_eq_false, not_false_eq_true, setI_hv, lt_lit]
    show B_X9_mayBe_4 (N + (233 + 3 * p)) rec (hv σ f) (nI (mbn S p (9 * i))) (nI (i + 1)) = rec (hv σ f, nI (mbn S p (9 * (i + 1))), nI (i + 1 + 1))
    rw [← lp]
    simp (decide := true) (disch := omega) only [B_X9_mayBe_4, b1_some, b2_some, litI, neg1, nI_add, nI_mul, e1_p1, nI_e0, ib, ib1, ite_not, if_true, if_false, not_true_eq_false, not_false_eq_true, setI_hv, lt_lit, show ¬ 9 < i + 1 by omega])
  refine Eq.trans (b := it (fun rec st => B_X9_mayBe_4 (N + (233 + 3 * p)) rec st.1 st.2.1 st.2.2) FU (hv σ f, nI (mbn S p (9 * 0)), nI (0 + 1))) rfl (hm.trans ?_)
  simp (decide := true) (disch := omega) only [B_X9_mayBe_4, b1_some, b2_some, litI, neg1, nI_add, nI_mul, e1_p1, nI_e0, ib, ib1, ite_not, if_true, if_false, not_true_eq_false, not_false_eq_true, setI_hv, lt_lit]
/-- the likeliest of the first n tables, and how many agree with it (none is 0) -/
def lkt (S : St) (p : Nat) : Nat → Nat × Nat
  | 0 => (0, 0)
  | t + 1 => if (lkt S p t).2 ≤ agt S p t then (t, agt S p t + 1) else lkt S p t
theorem lkt_b {S : St} (g : Good S) {p : Nat} (hp : p < 4) : ∀ n, (lkt S p n).1 ≤ n ∧ (lkt S p n).2 ≤ 13 ∧ (0 < n → (lkt S p n).1 < n ∧ (lkt S p n).2 = agt S p (lkt S p n).1 + 1)
  | 0 => ⟨Nat.le_refl _, Nat.zero_le _, fun h => absurd h (Nat.lt_irrefl 0)⟩
  | t + 1 => by
    have ih := lkt_b g hp t
    have al := agt_le g hp t
    unfold lkt
    by_cases q : (lkt S p t).2 ≤ agt S p t
    · rw [if_pos q]
      exact ⟨by show t ≤ t + 1; omega, by show agt S p t + 1 ≤ 13; omega, fun _ => ⟨by show t < t + 1; omega, rfl⟩⟩
    · rw [if_neg q]
      have t0 : 0 < t := by
        by_cases z : t = 0
        · subst z
          exact absurd (Nat.zero_le _) q
        · omega
      exact ⟨by omega, ih.2.1, fun _ => ⟨by have := (ih.2.2 t0).1; omega, (ih.2.2 t0).2⟩⟩
def bxn (S : St) (p n : Nat) : Nat := if n = 0 then 0 else 100 * ((lkt S p n).1 / 9 + 1) + 10 * ((lkt S p n).1 % 9 + 1)
theorem x_likl {N : Nat} {σ : Hp} {f : Nat → Nat → Int32} {S : St} (g : Good S) (h : RepX N (hv σ f) S) {p : Nat} (hp : p < 4) : F_X9_likeliest (hv σ f) (N + (233 + 3 * p)) = some (nI (bxn S p 81), hv σ f) := by
  have s : SX N σ := h.1
  unfold F_X9_likeliest L_X9_likeliest_6
  rw [s.PG hp]
  obtain ⟨m, hm⟩ := it_FU (body := fun rec st => B_X9_likeliest_6 (N + (233 + 3 * p)) rec st.1 st.2.1 st.2.2.1 st.2.2.2) (fun i => (hv σ f, nI (bxn S p (9 * i)), e1 (lkt S p (9 * i)).2, nI (i + 1))) 0 9 (by omega) (by omega) (fun i _ hi rec => by
    obtain ⟨m', hm'⟩ := it_FU (body := fun rec' st => B_X9_likeliest_16 rec (N + (233 + 3 * p)) (nI (i + 1)) rec' st.1 st.2.1 st.2.2.1 st.2.2.2) (fun j => (hv σ f, nI (bxn S p (9 * i + j)), e1 (lkt S p (9 * i + j)).2, nI (10 * (j + 1)))) 0 9 (by omega) (by omega) (fun j _ hj rec' => by
      have ag := x_agr g h (a := i + 1) (l := 10 * (j + 1)) hp (by omega) (by omega)
      rw [← agt_at S p i j hj] at ag
      have al := agt_le g hp (9 * i + j)
      have lb := lkt_b g hp (9 * i + j)
      show B_X9_likeliest_16 rec (N + (233 + 3 * p)) (nI (i + 1)) rec' (hv σ f) (nI (bxn S p (9 * i + j))) (e1 (lkt S p (9 * i + j)).2) (nI (10 * (j + 1))) = rec' (hv σ f, nI (bxn S p (9 * i + j + 1)), e1 (lkt S p (9 * i + j + 1)).2, nI (10 * (j + 1 + 1)))
      rw [show 10 * (j + 1 + 1) = 10 * (j + 1) + 10 by omega]
      by_cases q : (lkt S p (9 * i + j)).2 ≤ agt S p (9 * i + j)
      · have e : lkt S p (9 * i + j + 1) = (9 * i + j, agt S p (9 * i + j) + 1) := if_pos q
        have eb : bxn S p (9 * i + j + 1) = 100 * (i + 1) + 10 * (j + 1) := by
          unfold bxn
          rw [if_neg (by omega), e]
          show 100 * ((9 * i + j) / 9 + 1) + 10 * ((9 * i + j) % 9 + 1) = _
          omega
        rw [eb, e]
        simp (decide := true) (disch := omega) only [B_X9_likeliest_16, b1_some, b2_some, litI, neg1, nI_add, nI_mul, e1_p1, nI_e0, ib, ib1, ite_not, if_true, if_false, not_true_eq_false, not_false_eq_true, setI_hv, lt_lit, show ¬ 90 < 10 * (j + 1) by omega, ag, nI_le_e1, show ¬ agt S p (9 * i + j) < (lkt S p (9 * i + j)).2 by omega, e1_s]
      · have e : lkt S p (9 * i + j + 1) = lkt S p (9 * i + j) := if_neg q
        have n0 : ¬ 9 * i + j = 0 := fun z => q (by rw [z]; exact Nat.zero_le _)
        have eb : bxn S p (9 * i + j + 1) = bxn S p (9 * i + j) := by
          unfold bxn
          rw [if_neg (by omega), if_neg n0, e]
        rw [eb, e]
        simp (decide := true) (disch := omega) only [B_X9_likeliest_16, b1_some, b2_some, litI, neg1, nI_add, nI_mul, e1_p1, nI_e0, ib, ib1, ite_not, if_true, if_false, not_true_eq_false, not_false_eq_true, setI_hv, lt_lit, show ¬ 90 < 10 * (j + 1) by omega, ag, nI_le_e1, show agt S p (9 * i + j) < (lkt S p (9 * i + j)).2 by omega])
    have lp : L_X9_likeliest_16 rec (N + (233 + 3 * p)) (nI (i + 1)) FU (hv σ f, nI (bxn S p (9 * i)), e1 (lkt S p (9 * i)).2, nI 10) = rec (hv σ f, nI (bxn S p (9 * (i + 1))), e1 (lkt S p (9 * (i + 1))).2, nI (i + 1 + 1)) := by
      refine hm'.trans ?_
      show B_X9_likeliest_16 rec (N + (233 + 3 * p)) (nI (i + 1)) m' (hv σ f) (nI (bxn S p (9 * i + 9))) (e1 (lkt S p (9 * i + 9)).2) (nI (10 * (9 + 1))) = _
      rw [show 9 * (i + 1) = 9 * i + 9 by omega]
      simp (decide := true) (disch := omega) only [B_X9_likeliest_16, b1_some, b2_some, litI, neg1, nI_add, nI_mul, e1_p1, nI_e0, ib, ib1, ite_not, if_true, if_false, not_true_eq_false, not_false_eq_true, setI_hv, lt_lit]
    show B_X9_likeliest_6 (N + (233 + 3 * p)) rec (hv σ f) (nI (bxn S p (9 * i))) (e1 (lkt S p (9 * i)).2) (nI (i + 1)) = rec (hv σ f, nI (bxn S p (9 * (i + 1))), e1 (lkt S p (9 * (i + 1))).2, nI (i + 1 + 1))
    rw [← lp]
    simp (decide := true) (disch := omega) only [B_X9_likeliest_6, b1_some, b2_some, litI, neg1, nI_add, nI_mul, e1_p1, nI_e0, ib, ib1, ite_not, if_true, if_false, not_true_eq_false, not_false_eq_true, setI_hv, lt_lit, show ¬ 9 < i + 1 by omega])
  refine Eq.trans (b := it (fun rec st => B_X9_likeliest_6 (N + (233 + 3 * p)) rec st.1 st.2.1 st.2.2.1 st.2.2.2) FU (hv σ f, nI (bxn S p (9 * 0)), e1 (lkt S p (9 * 0)).2, nI (0 + 1))) rfl (hm.trans ?_)
  simp (decide := true) (disch := omega) only [B_X9_likeliest_6, b1_some, b2_some, litI, neg1, nI_add, nI_mul, e1_p1, nI_e0, ib, ib1, ite_not, if_true, if_false, not_true_eq_false, not_false_eq_true, setI_hv, lt_lit]
