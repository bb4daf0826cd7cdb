set_option maxRecDepth 100000
/-! pure law 21: due -/
abbrev duf (S : St) (r : Nat) : Prop := ¬ los S 3 r = 0 ∧ (S.2 14 r = 0 ∨ los S 3 r - 1 ≤ S.1 0 - (S.2 14 r - 1))
def dm (S : St) : Nat → Nat
  | 0 => 0
  | n + 1 => if duf S n then dm S n ||| 2 ^ n else dm S n
theorem dm_lt (S : St) : ∀ n, n ≤ 8 → dm S n < 256
  | 0, _ => by show 0 < 256; omega
  | n + 1, h => by
    have ih := dm_lt S n (by omega)
    unfold dm
    split
    · exact (or_b n (by omega) _ ih).1
    · exact ih
theorem Good.wd {S : St} (g : Good S) {r : Nat} (hr : r < 8) : S.2 14 r ≤ S.1 0 + 1 := g.2.2.2.2.2.2.2.2.2.2.2.1 r hr
def oDue (S : St) : Int32 × St := (nI (dm S 8), S)
theorem m_due (M : Nat) : OkMf M (fun σ => F_X10_due σ M) oDue := by
  intro σ f S g h
  have s : SM M σ := h.1
  have dy := g.dy
  refine ⟨f, ?_, h, fun _ _ _ => rfl⟩
  show F_X10_due (hv σ f) M = some (nI (dm S 8), hv σ f)
  unfold F_X10_due L_X10_due_4
  rw [gd_hv s.1]
  obtain ⟨m, hm⟩ := it_FU (body := fun rec st => B_X10_due_4 M rec st.1 st.2.1 st.2.2) (fun i => (hv σ f, nI (dm S i), nI i)) 0 8 (by omega) (by omega) (fun i _ hi rec => by
    have wd := g.wd hi
    have d8 := dm_lt S i (by omega)
    have ll := lo_le g 3 i (S.1 29) (Nat.le_refl _)
    have l3 : los S 3 i ≤ 100 := ll.1
    have l4 : los S 3 i ≠ 1 := ll.2.2.2.1 rfl
    have la := m_last g h (s := 3) (r := i) (w := 0) (by omega) hi (by omega)
    show B_X10_due_4 M rec (hv σ f) (nI (dm S i)) (nI i) = rec (hv σ f, nI (if duf S i then dm S i ||| 2 ^ i else dm S i), nI (i + 1))
    by_cases q : los S 3 i = 0
    · rw [if_pos q] at la
      rw [if_neg (fun z => z.1 q)]
      simp (decide := true) (disch := omega) only [B_X10_due_4, F_X10_due_51, F_X10_due_52, b1_some, b2_some, litI, neg1, nI_add, nI_mul, e1_p1, nI_e0, ib, ib1, ite_not, if_true, if_false, not_true_eq_false, not_false_eq_true, setI_hv, le_lit, show ¬ 8 ≤ i by omega, la, Nat.le_refl, or_0 _ d8]
    · rw [if_neg q] at la
      by_cases q2 : S.2 14 i = 0
      · rw [if_pos ⟨q, Or.inl q2⟩]
        simp (decide := true) (disch := omega) only [B_X10_due_4, F_X10_due_47, F_X10_due_52, gd_hv s.1, gI_hv s.1, pI_hv s.1, s.R14, s.A14, s.W14, b1_some, b2_some, litI, neg1, nI_add, nI_mul, e1_p1, nI_e0, ib, ib1, ite_not, if_true, if_false, not_true_eq_false, not_false_eq_true, setI_hv, le_lit, eq_lit, show ¬ 8 ≤ i by omega, la, show ¬ los S 3 i - 1 ≤ 0 by omega, h.a14, q2, orN _ d8 i hi]
      · by_cases q3 : los S 3 i - 1 ≤ S.1 0 - (S.2 14 i - 1)
        · rw [if_pos ⟨q, Or.inr q3⟩]
          simp (decide := true) (disch := omega) only [B_X10_due_4, F_X10_due_47, F_X10_due_52, gd_hv s.1, gI_hv s.1, pI_hv s.1, s.R14, s.A14, s.W14, b1_some, b2_some, litI, neg1, nI_add, nI_mul, e1_p1, nI_e0, ib, ib1, ite_not, if_true, if_false, not_true_eq_false, not_false_eq_true, setI_hv, le_lit, lt_lit, eq_lit, show ¬ 8 ≤ i by omega, la, show ¬ los S 3 i - 1 ≤ 0 by omega, h.a14, e1_of, q2, h.s0, nI_sub, show ¬ S.1 0 - (S.2 14 i - 1) < los S 3 i - 1 by omega, orN _ d8 i hi]
        · rw [if_neg (fun z => z.2.elim q2 q3)]
          simp (decide := true) (disch := omega) only [B_X10_due_4, F_X10_due_51, F_X10_due_52, gd_hv s.1, gI_hv s.1, pI_hv s.1, s.R14, s.A14, s.W14, b1_some, b2_some, litI, neg1, nI_add, nI_mul, e1_p1, nI_e0, ib, ib1, ite_not, if_true, if_false, not_true_eq_false, not_false_eq_true, setI_hv, le_lit, lt_lit, eq_lit, show ¬ 8 ≤ i by omega, la, show ¬ los S 3 i - 1 ≤ 0 by omega, h.a14, e1_of, q2, h.s0, nI_sub, show S.1 0 - (S.2 14 i - 1) < los S 3 i - 1 by omega, or_0 _ d8])
  refine Eq.trans (b := it (fun rec st => B_X10_due_4 M rec st.1 st.2.1 st.2.2) FU (hv σ f, nI (dm S 0), nI 0)) rfl (hm.trans ?_)
  simp (decide := true) (disch := omega) only [B_X10_due_4, b1_some, b2_some, litI, neg1, nI_add, nI_mul, e1_p1, nI_e0, ib, ib1, ite_not, if_true, if_false, not_true_eq_false, not_false_eq_true, setI_hv, le_lit, Nat.le_refl]
theorem x_due (N : Nat) : OkXf N (fun σ => F_X0_due σ N) oDue := by
  intro σ f S g h
  have s : SX N σ := h.1
  have dy := g.dy
  have lm := g.lm
  refine ⟨f, ?_, h, fun _ _ _ => rfl⟩
  show F_X0_due (hv σ f) N = some (nI (dm S 8), hv σ f)
  unfold F_X0_due L_X0_due_4
  rw [gd_hv s.t0]
  obtain ⟨m, hm⟩ := it_FU (body := fun rec st => B_X0_due_4 N rec st.1 st.2.1 st.2.2) (fun i => (hv σ f, nI (dm S i), nI i)) 0 8 (by omega) (by omega) (fun i _ hi rec => by
    have wd := g.wd hi
    have d8 := dm_lt S i (by omega)
    have l3 : los S 3 i ≤ 100 := (lo_le g 3 i (S.1 29) (Nat.le_refl _)).1
    show B_X0_due_4 N rec (hv σ f) (nI (dm S i)) (nI i) = rec (hv σ f, nI (if duf S i then dm S i ||| 2 ^ i else dm S i), nI (i + 1))
    have e61 : F_X0_due_61 rec (hv σ f) N (nI (dm S i)) (nI i) (e1 (los S 3 i)) = rec (hv σ f, nI (if duf S i then dm S i ||| 2 ^ i else dm S i), nI (i + 1)) := by
      by_cases q : los S 3 i = 0
      · rw [if_neg (fun z => z.1 q)]
        simp (decide := true) (disch := omega) only [F_X0_due_61, b1_some, b2_some, litI, neg1, nI_add, nI_mul, e1_p1, nI_e0, ib, ib1, ite_not, if_true, if_false, not_true_eq_false, not_false_eq_true, setI_hv, q, or_0 _ d8]
      · rw [e1_of (by omega)]
        by_cases q2 : S.2 14 i = 0
        · rw [if_pos ⟨q, Or.inl q2⟩]
          simp (decide := true) (disch := omega) only [F_X0_due_61, gd_hv s.t0, gI_hv s.t0, pI_hv s.t0, s.R9, s.A208, s.W208, b1_some, b2_some, litI, neg1, nI_add, nI_mul, e1_p1, nI_e0, ib, ib1, ite_not, if_true, if_false, not_true_eq_false, not_false_eq_true, setI_hv, h.a14, q2, orN _ d8 i hi]
        · by_cases q3 : los S 3 i - 1 ≤ S.1 0 - (S.2 14 i - 1)
          · rw [if_pos ⟨q, Or.inr q3⟩]
            simp (decide := true) (disch := omega) only [F_X0_due_61, gd_hv s.t0, gI_hv s.t0, pI_hv s.t0, s.R9, s.A208, s.W208, b1_some, b2_some, litI, neg1, nI_add, nI_mul, e1_p1, nI_e0, ib, ib1, ite_not, if_true, if_false, not_true_eq_false, not_false_eq_true, setI_hv, h.a14, e1_of, q2, h.s0, nI_sub, lt_lit, show ¬ S.1 0 - (S.2 14 i - 1) < los S 3 i - 1 by omega, orN _ d8 i hi]
          · rw [if_neg (fun z => z.2.elim q2 q3)]
            simp (decide := true) (disch := omega) only [F_X0_due_61, gd_hv s.t0, gI_hv s.t0, pI_hv s.t0, s.R9, s.A208, s.W208, b1_some, b2_some, litI, neg1, nI_add, nI_mul, e1_p1, nI_e0, ib, ib1, ite_not, if_true, if_false, not_true_eq_false, not_false_eq_true, setI_hv, h.a14, e1_of, q2, h.s0, nI_sub, lt_lit, show S.1 0 - (S.2 14 i - 1) < los S 3 i - 1 by omega, or_0 _ d8]
    obtain ⟨m', hm'⟩ := it_FU (body := fun rec' st => B_X0_due_15 rec N (nI (dm S i)) (nI i) rec' st.1 st.2.1 st.2.2) (fun k => (hv σ f, e1 (lo S 3 i k), nI k)) 0 (S.1 29) (by omega) (by omega) (fun k _ hk rec' => by
      obtain ⟨L, a, l1, l2, -, -, -, l4⟩ := x_line g h hk
      have l5 := l4 i hi
      have v2 := lv_le g hk 3 i
      show B_X0_due_15 rec N (nI (dm S i)) (nI i) rec' (hv σ f) (e1 (lo S 3 i k)) (nI k) = rec' (hv σ f, e1 (if lv S k 3 i = 0 then lo S 3 i k else lv S k 3 i), nI (k + 1))
      by_cases q1 : lv S k 3 i = 0
      all_goals simp (decide := true) (disch := omega) only [B_X0_due_15, gd_hv s.t0, gI_hv s.t0, pI_hv s.t0, b1_some, b2_some, litI, neg1, nI_add, nI_mul, e1_p1, nI_e0, ib, ib1, ite_not, if_true, if_false, not_true_eq_false, not_false_eq_true, setI_hv, h.s29, le_lit, show ¬ S.1 29 ≤ k by omega, l1, l2, l5, q1, e1_inj])
    have lp : L_X0_due_15 rec N (nI (dm S i)) (nI i) FU (hv σ f, e1 0, nI 0) = rec (hv σ f, nI (if duf S i then dm S i ||| 2 ^ i else dm S i), nI (i + 1)) := by
      refine hm'.trans ?_
      show B_X0_due_15 rec N (nI (dm S i)) (nI i) m' (hv σ f) (e1 (los S 3 i)) (nI (S.1 29)) = _
      rw [← e61]
      simp (decide := true) (disch := omega) only [B_X0_due_15, gd_hv s.t0, gI_hv s.t0, pI_hv s.t0, b1_some, h.s29, le_lit, Nat.le_refl, if_true]
    rw [← lp]
    simp (decide := true) (disch := omega) only [B_X0_due_4, b1_some, b2_some, litI, neg1, nI_add, nI_mul, e1_p1, nI_e0, ib, ib1, ite_not, if_true, if_false, not_true_eq_false, not_false_eq_true, setI_hv, le_lit, show ¬ 8 ≤ i by omega])
  refine Eq.trans (b := it (fun rec st => B_X0_due_4 N rec st.1 st.2.1 st.2.2) FU (hv σ f, nI (dm S 0), nI 0)) rfl (hm.trans ?_)
  simp (decide := true) (disch := omega) only [B_X0_due_4, b1_some, b2_some, litI, neg1, nI_add, nI_mul, e1_p1, nI_e0, ib, ib1, ite_not, if_true, if_false, not_true_eq_false, not_false_eq_true, setI_hv, le_lit, Nat.le_refl]
