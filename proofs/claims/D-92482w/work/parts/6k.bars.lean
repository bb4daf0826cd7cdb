set_option maxRecDepth 100000
/-! pure law 20: bars, due -/
abbrev crw (S : St) (t c a : Nat) : Prop := ¬ S.2 9 c = 0 ∧ a < lkn S t (S.2 9 c - 1)
theorem m_too {M : Nat} {σ : Hp} {f : Nat → Nat → Int32} {S : St} (g : Good S) (h : RepM M (hv σ f) S) {t c a : Nat} (ht : t < 24) (hc : c < 48) (ha : a ≤ 100) : F_X10_isTooLike (hv σ f) M (nI t) (nI c) (nI a) = some (if crw S t c a then nI 1 else nI 0, hv σ f) := by
  have s : SM M σ := h.1
  have b := g.cn hc
  by_cases q : S.2 9 c = 0
  · simp (decide := true) (disch := omega) only [F_X10_isTooLike, gd_hv s.1, gI_hv s.1, pI_hv s.1, s.R9, s.A9, s.W9, b1_some, b2_some, litI, neg1, nI_add, nI_mul, e1_p1, nI_e0, ib, ib1, ite_not, if_true, if_false, not_true_eq_false, not_false_eq_true, setI_hv, h.a9, q, crw, false_and]
  · have lk := m_lk g h (a := S.2 9 c - 1) (b := t) (by omega) ht
    rw [lkn_comm] at lk
    have hl := lkn_le S t (S.2 9 c - 1)
    by_cases q2 : a < lkn S t (S.2 9 c - 1)
    · simp (decide := true) (disch := omega) only [F_X10_isTooLike, gd_hv s.1, gI_hv s.1, pI_hv s.1, s.R9, s.A9, s.W9, b1_some, b2_some, litI, neg1, nI_add, nI_mul, e1_p1, nI_e0, ib, ib1, ite_not, if_true, if_false, not_true_eq_false, not_false_eq_true, setI_hv, h.a9, q, e1_of, lk, le_lit, show ¬ lkn S t (S.2 9 c - 1) ≤ a by omega, crw, q2, and_self]
    · simp (decide := true) (disch := omega) only [F_X10_isTooLike, gd_hv s.1, gI_hv s.1, pI_hv s.1, s.R9, s.A9, s.W9, b1_some, b2_some, litI, neg1, nI_add, nI_mul, e1_p1, nI_e0, ib, ib1, ite_not, if_true, if_false, not_true_eq_false, not_false_eq_true, setI_hv, h.a9, q, e1_of, lk, le_lit, show lkn S t (S.2 9 c - 1) ≤ a by omega, crw, q2, and_false]
theorem m_bars92 {M : Nat} {σ : Hp} {f : Nat → Nat → Int32} {S : St} (g : Good S) (h : RepM M (hv σ f) S) {t c a : Nat} (ht : t < 24) (hc : c < 48) (ha : a ≤ 100) (y0 y1 : Nat) : F_X10_bars_92 (hv σ f) M (nI t) (nI c) (nI a) (nI y0) (nI y1) = some (nI (y1 + y0 + if (0 < c % 6 ∧ crw S t (c - 1) a) ∨ (c % 6 < 5 ∧ crw S t (c + 1) a) then 4 else 0), hv σ f) := by
  have e114 : ∀ y, ¬ (0 < c % 6 ∧ crw S t (c - 1) a) → F_X10_bars_114 (hv σ f) M (nI t) (nI c) (nI y) (nI a) = some (nI (y + if (0 < c % 6 ∧ crw S t (c - 1) a) ∨ (c % 6 < 5 ∧ crw S t (c + 1) a) then 4 else 0), hv σ f) := fun y q0 => by
    by_cases q : c % 6 < 5
    · have mt := m_too g h (t := t) (c := c + 1) (a := a) ht (by omega) ha
      by_cases q2 : crw S t (c + 1) a
      · rw [if_pos q2] at mt
        rw [if_pos (Or.inr ⟨q, q2⟩)]
        simp (decide := true) (disch := omega) only [F_X10_bars_114, F_X10_bars_135, b1_some, b2_some, litI, neg1, nI_add, nI_mul, e1_p1, nI_e0, ib, ib1, ite_not, if_true, if_false, not_true_eq_false, not_false_eq_true, setI_hv, c6, r6', le_lit, show ¬ 5 ≤ c % 6 by omega, mt]
      · rw [if_neg q2] at mt
        rw [if_neg (fun z => z.elim q0 (fun w => q2 w.2))]
        simp (decide := true) (disch := omega) only [F_X10_bars_114, F_X10_bars_135, b1_some, b2_some, litI, neg1, nI_add, nI_mul, e1_p1, nI_e0, ib, ib1, ite_not, if_true, if_false, not_true_eq_false, not_false_eq_true, setI_hv, c6, r6', le_lit, show ¬ 5 ≤ c % 6 by omega, mt]
    · rw [if_neg (fun z => z.elim q0 (fun w => q w.1))]
      simp (decide := true) (disch := omega) only [F_X10_bars_114, b1_some, b2_some, litI, neg1, nI_add, nI_mul, e1_p1, nI_e0, ib, ib1, ite_not, if_true, if_false, not_true_eq_false, not_false_eq_true, setI_hv, c6, r6', le_lit, show 5 ≤ c % 6 by omega]
  by_cases q : 0 < c % 6
  · have mt := m_too g h (t := t) (c := c - 1) (a := a) ht (by omega) ha
    by_cases q2 : crw S t (c - 1) a
    · rw [if_pos q2] at mt
      rw [if_pos (Or.inl ⟨q, q2⟩)]
      simp (decide := true) (disch := omega) only [F_X10_bars_92, F_X10_bars_135, b1_some, b2_some, litI, neg1, nI_add, nI_mul, e1_p1, nI_e0, ib, ib1, ite_not, if_true, if_false, not_true_eq_false, not_false_eq_true, setI_hv, c6, r6', le_lit, show ¬ c % 6 ≤ 0 by omega, show ¬ c - c / 6 * 6 ≤ 0 by omega, nI_sub, mt]
    · rw [if_neg q2] at mt
      have e := e114 (y1 + y0) (fun z => q2 z.2)
      revert e
      generalize (if (0 < c % 6 ∧ crw S t (c - 1) a) ∨ (c % 6 < 5 ∧ crw S t (c + 1) a) then 4 else 0) = z
      intro e
      simp (decide := true) (disch := omega) only [F_X10_bars_92, b1_some, b2_some, litI, neg1, nI_add, nI_mul, e1_p1, nI_e0, ib, ib1, ite_not, if_true, if_false, not_true_eq_false, not_false_eq_true, setI_hv, c6, r6', le_lit, show ¬ c % 6 ≤ 0 by omega, show ¬ c - c / 6 * 6 ≤ 0 by omega, nI_sub, mt, e]
  · have e := e114 (y1 + y0) (fun z => q z.1)
    revert e
    generalize (if (0 < c % 6 ∧ crw S t (c - 1) a) ∨ (c % 6 < 5 ∧ crw S t (c + 1) a) then 4 else 0) = z
    intro e
    simp (decide := true) (disch := omega) only [F_X10_bars_92, b1_some, b2_some, litI, neg1, nI_add, nI_mul, e1_p1, nI_e0, ib, ib1, ite_not, if_true, if_false, not_true_eq_false, not_false_eq_true, setI_hv, c6, r6', le_lit, show c % 6 ≤ 0 by omega, e]
def ba1 (S : St) (c : Nat) : Nat := if ¬ los S 0 (c / 6) = 0 ∧ los S 0 (c / 6) - 1 ≤ stn (S.2 9) (c / 6) then 1 else 0
def ba2 (S : St) (c : Nat) : Nat := if ¬ los S 1 0 = 0 ∧ ¬ S.2 13 c = 0 ∧ S.1 0 - (S.2 13 c - 1) < los S 1 0 - 1 then 2 else 0
def ba3 (S : St) (t c : Nat) : Nat := if ¬ los S 2 0 = 0 ∧ ((0 < c % 6 ∧ crw S t (c - 1) (los S 2 0 - 1)) ∨ (c % 6 < 5 ∧ crw S t (c + 1) (los S 2 0 - 1))) then 4 else 0
def oBars (t c : Int32) (S : St) : Int32 × St := if inR t 0 23 ∧ inR c 0 47 then (nI (ba1 S c.toNatClampNeg + ba2 S c.toNatClampNeg + ba3 S t.toNatClampNeg c.toNatClampNeg), S) else (-2, S)
theorem ba3_m (S : St) (t c : Nat) : (if (0 < c % 6 ∧ crw S t (c - 1) (if los S 2 0 = 0 then 100 else los S 2 0 - 1)) ∨ (c % 6 < 5 ∧ crw S t (c + 1) (if los S 2 0 = 0 then 100 else los S 2 0 - 1)) then 4 else 0) = ba3 S t c := by
  unfold ba3
  by_cases q : los S 2 0 = 0
  · rw [if_pos q]
    have n1 : ∀ x, ¬ crw S t x 100 := fun x z => by have := lkn_le S t (S.2 9 x - 1); have := z.2; omega
    rw [if_neg (fun z => z.elim (fun w => n1 _ w.2) (fun w => n1 _ w.2)), if_neg (fun z => z.1 q)]
  · rw [if_neg q]
    by_cases w : (0 < c % 6 ∧ crw S t (c - 1) (los S 2 0 - 1)) ∨ (c % 6 < 5 ∧ crw S t (c + 1) (los S 2 0 - 1))
    · rw [if_pos w, if_pos ⟨q, w⟩]
    · rw [if_neg w, if_neg (fun z => w z.2)]
theorem m_bars (M : Nat) (t c : Int32) : OkMf M (fun σ => F_X10_bars σ M t c) (oBars t c) := by
  intro σ f S g h
  have s : SM M σ := h.1
  simp only [F_X10_bars, oBars, gd_hv s.1, x10_isThing, x10_isCorner, b2_some]
  rcases in_split t 0 23 (by omega) (by omega) with ⟨i, -, hi, rfl⟩ | hk
  case inr => simp (decide := true) (disch := omega) only [b1_some, b2_some, litI, neg1, nI_add, nI_mul, e1_p1, nI_e0, ib, ib1, ite_not, if_true, if_false, not_true_eq_false, not_false_eq_true, setI_hv, hk, false_and]; exact ⟨_, rfl, h, fun _ _ _ => rfl⟩
  have qi := eq_true (inR_of (Nat.zero_le i) hi (by omega))
  rcases in_split c 0 47 (by omega) (by omega) with ⟨j, -, hj, rfl⟩ | hk
  case inr => simp (decide := true) (disch := omega) only [b1_some, b2_some, litI, neg1, nI_add, nI_mul, e1_p1, nI_e0, ib, ib1, ite_not, if_true, if_false, not_true_eq_false, not_false_eq_true, setI_hv, qi, hk, and_false]; exact ⟨_, rfl, h, fun _ _ _ => rfl⟩
  have qj := eq_true (inR_of (Nat.zero_le j) hj (by omega))
  have b := g.cn (c := j) (by omega)
  have dy := g.dy
  have l0 := lo_le g 0 (j / 6) (S.1 29) (Nat.le_refl _)
  have l1 := lo_le g 1 0 (S.1 29) (Nat.le_refl _)
  have l2 := lo_le g 2 0 (S.1 29) (Nat.le_refl _)
  have sl := stn_le (S.2 9) (j / 6)
  have la1 := m_last g h (s := 1) (r := 0) (w := 0) (by omega) (by omega) (by omega)
  have la2 := m_last g h (s := 2) (r := 0) (w := 100) (by omega) (by omega) (by omega)
  have la0 := m_last g h (s := 0) (r := j / 6) (w := 100) (by omega) (by omega) (by omega)
  have e92 : ∀ y0 y1, F_X10_bars_92 (hv σ f) M (nI i) (nI j) (nI (if los S 2 0 = 0 then 100 else los S 2 0 - 1)) (nI y0) (nI y1) = some (nI (y1 + y0 + ba3 S i j), hv σ f) := fun y0 y1 => by
    have := m_bars92 g h (t := i) (c := j) (a := if los S 2 0 = 0 then 100 else los S 2 0 - 1) (by omega) (by omega) (by unfold los; split <;> omega) y0 y1
    rw [ba3_m] at this
    exact this
  have e44 : ∀ y, F_X10_bars_44 (hv σ f) M (nI i) (nI j) (nI y) = some (nI (y + ba2 S j + ba3 S i j), hv σ f) := fun y => by
    revert e92 la2
    generalize (if los S 2 0 = 0 then 100 else los S 2 0 - 1) = z2
    intro la2 e92
    by_cases q1 : S.2 13 j = 0
    · have e : ba2 S j = 0 := if_neg (fun z => z.2.1 q1)
      simp (decide := true) (disch := omega) only [F_X10_bars_44, F_X10_bars_91, gd_hv s.1, gI_hv s.1, pI_hv s.1, s.R13, s.A13, s.W13, b1_some, b2_some, litI, neg1, nI_add, nI_mul, e1_p1, nI_e0, ib, ib1, ite_not, if_true, if_false, not_true_eq_false, not_false_eq_true, setI_hv, la2, h.a13, q1, e92, e]
    · by_cases q2 : los S 1 0 = 0
      · have e : ba2 S j = 0 := if_neg (fun z => z.1 q2)
        rw [if_pos q2] at la1
        simp (decide := true) (disch := omega) only [F_X10_bars_44, F_X10_bars_91, gd_hv s.1, gI_hv s.1, pI_hv s.1, s.R13, s.A13, s.W13, b1_some, b2_some, litI, neg1, nI_add, nI_mul, e1_p1, nI_e0, ib, ib1, ite_not, if_true, if_false, not_true_eq_false, not_false_eq_true, setI_hv, la2, h.a13, q1, e1_of, h.s0, la1, nI_sub, le_lit, Nat.zero_le, e92, e]
      · rw [if_neg q2] at la1
        have l1' : los S 1 0 ≤ 100 := l1.1
        by_cases q3 : S.1 0 - (S.2 13 j - 1) < los S 1 0 - 1
        · have e : ba2 S j = 2 := if_pos ⟨q2, q1, q3⟩
          simp (decide := true) (disch := omega) only [F_X10_bars_44, F_X10_bars_91, gd_hv s.1, gI_hv s.1, pI_hv s.1, s.R13, s.A13, s.W13, b1_some, b2_some, litI, neg1, nI_add, nI_mul, e1_p1, nI_e0, ib, ib1, ite_not, if_true, if_false, not_true_eq_false, not_false_eq_true, setI_hv, la2, h.a13, q1, e1_of, h.s0, la1, nI_sub, le_lit, show ¬ los S 1 0 - 1 ≤ S.1 0 - (S.2 13 j - 1) by omega, e92, e]
        · have e : ba2 S j = 0 := if_neg (fun z => q3 z.2.2)
          simp (decide := true) (disch := omega) only [F_X10_bars_44, F_X10_bars_91, gd_hv s.1, gI_hv s.1, pI_hv s.1, s.R13, s.A13, s.W13, b1_some, b2_some, litI, neg1, nI_add, nI_mul, e1_p1, nI_e0, ib, ib1, ite_not, if_true, if_false, not_true_eq_false, not_false_eq_true, setI_hv, la2, h.a13, q1, e1_of, h.s0, la1, nI_sub, le_lit, show los S 1 0 - 1 ≤ S.1 0 - (S.2 13 j - 1) by omega, e92, e]
  refine ⟨f, ?_, ?_, fun _ _ _ => rfl⟩
  · have l0' : los S 0 (j / 6) ≤ 100 := l0.1
    by_cases q : los S 0 (j / 6) = 0
    · have e : ba1 S j = 0 := if_neg (fun z => z.1 q)
      rw [if_pos q] at la0
      simp (decide := true) (disch := omega) only [b1_some, b2_some, litI, neg1, nI_add, nI_mul, e1_p1, nI_e0, ib, ib1, ite_not, if_true, if_false, not_true_eq_false, not_false_eq_true, setI_hv, qi, qj, and_self, cl_I, c6, m_stand g h, la0, lt_lit, show stn (S.2 9) (j / 6) < 100 by omega, e44, e]
    · rw [if_neg q] at la0
      by_cases q2 : los S 0 (j / 6) - 1 ≤ stn (S.2 9) (j / 6)
      · have e : ba1 S j = 1 := if_pos ⟨q, q2⟩
        simp (decide := true) (disch := omega) only [b1_some, b2_some, litI, neg1, nI_add, nI_mul, e1_p1, nI_e0, ib, ib1, ite_not, if_true, if_false, not_true_eq_false, not_false_eq_true, setI_hv, qi, qj, and_self, cl_I, c6, m_stand g h, la0, lt_lit, show ¬ stn (S.2 9) (j / 6) < los S 0 (j / 6) - 1 by omega, e44, e]
      · have e : ba1 S j = 0 := if_neg (fun z => q2 z.2)
        simp (decide := true) (disch := omega) only [b1_some, b2_some, litI, neg1, nI_add, nI_mul, e1_p1, nI_e0, ib, ib1, ite_not, if_true, if_false, not_true_eq_false, not_false_eq_true, setI_hv, qi, qj, and_self, cl_I, c6, m_stand g h, la0, lt_lit, show stn (S.2 9) (j / 6) < los S 0 (j / 6) - 1 by omega, e44, e]
  · simp (decide := true) (disch := omega) only [qi, qj, and_self, if_true]
    exact h
theorem x_crow {N : Nat} {σ : Hp} {f : Nat → Nat → Int32} {S : St} (g : Good S) (h : RepX N (hv σ f) S) {t r k a : Nat} (ht : t < 24) (hr : r < 8) (hk : k ≤ 5) (ha : a ≤ 100) : F_X0_crowds (hv σ f) N (nI t) (nI r) (nI k) (nI a) = some (if crw S t (6 * r + k) a then nI 1 else nI 0, hv σ f) := by
  have s : SX N σ := h.1
  have b := g.cn (c := 6 * r + k) (by omega)
  have th := s.h12.there (f := f) (c := 6 * r + k) (by omega) (by omega : S.2 9 (6 * r + k) < 1000) (h.a9 (by omega))
  simp only [F_X0_crowds, gd_hv s.t0, x0_inR _ (nI k) 0 5 0 5 (by decide) (by decide), inE hk, if_true, b2_some, if10]
  by_cases q : S.2 9 (6 * r + k) = 0
  · simp (decide := true) (disch := omega) only [gd_hv s.t0, gI_hv s.t0, pI_hv s.t0, s.R7, s.R12_0, s.C12, s.h12.CD, s.h12.CI, s.h12.CW, s.h12.G, s.h12.GD, s.h12.GI, s.h12.GW, th, b1_some, b2_some, litI, neg1, nI_add, nI_mul, e1_p1, nI_e0, ib, ib1, ite_not, if_true, if_false, not_true_eq_false, not_false_eq_true, setI_hv, q, ne_eq, crw, false_and]
  · have lk := xl_lk g s h.lk (a := t) (b := S.2 9 (6 * r + k) - 1) ht (by omega)
    have hl := lkn_le S t (S.2 9 (6 * r + k) - 1)
    by_cases q2 : a < lkn S t (S.2 9 (6 * r + k) - 1)
    · simp (decide := true) (disch := omega) only [gd_hv s.t0, gI_hv s.t0, pI_hv s.t0, s.R7, s.R12_0, s.C12, s.h12.CD, s.h12.CI, s.h12.CW, s.h12.G, s.h12.GD, s.h12.GI, s.h12.GW, th, b1_some, b2_some, litI, neg1, nI_add, nI_mul, e1_p1, nI_e0, ib, ib1, ite_not, if_true, if_false, not_true_eq_false, not_false_eq_true, setI_hv, q, ne_eq, h.a9, e1_of, lk, le_lit, eq_lit, show ¬ lkn S t (S.2 9 (6 * r + k) - 1) ≤ a by omega, crw, q2, and_self]
    · simp (decide := true) (disch := omega) only [gd_hv s.t0, gI_hv s.t0, pI_hv s.t0, s.R7, s.R12_0, s.C12, s.h12.CD, s.h12.CI, s.h12.CW, s.h12.G, s.h12.GD, s.h12.GI, s.h12.GW, th, b1_some, b2_some, litI, neg1, nI_add, nI_mul, e1_p1, nI_e0, ib, ib1, ite_not, if_true, if_false, not_true_eq_false, not_false_eq_true, setI_hv, q, ne_eq, h.a9, e1_of, lk, le_lit, eq_lit, show lkn S t (S.2 9 (6 * r + k) - 1) ≤ a by omega, crw, q2, and_false]
theorem x_crow0 {N : Nat} {σ : Hp} {f : Nat → Nat → Int32} (s : SX N σ) (x y z : Int32) : F_X0_crowds (hv σ f) N x y (e1 0) z = some (nI 0, hv σ f) := by
  simp only [F_X0_crowds, gd_hv s.t0, x0_inR _ (e1 0) 0 5 0 5 (by decide) (by decide), inE0, if_false, b2_some]
  rfl
theorem x_crow6 {N : Nat} {σ : Hp} {f : Nat → Nat → Int32} (s : SX N σ) (x y z : Int32) : F_X0_crowds (hv σ f) N x y (nI 6) z = some (nI 0, hv σ f) := by
  simp only [F_X0_crowds, gd_hv s.t0, x0_inR _ (nI 6) 0 5 0 5 (by decide) (by decide), inE6, if_false, b2_some]
  rfl
theorem e1_m (n : Nat) : nI n - nI 1 = e1 n := rfl
theorem x_bars192 {N : Nat} {σ : Hp} {f : Nat → Nat → Int32} {S : St} (g : Good S) (h : RepX N (hv σ f) S) {t c : Nat} (ht : t < 24) (hc : c < 48) (y0 y1 : Nat) : F_X0_bars_192 (hv σ f) N (nI t) (nI (c / 6)) (nI (c % 6)) (e1 (los S 2 0)) (nI y0) (nI y1) = some (nI (y1 + y0 + ba3 S t c), hv σ f) := by
  have s : SX N σ := h.1
  have l2 : los S 2 0 ≤ 100 := (lo_le g 2 0 (S.1 29) (Nat.le_refl _)).1
  by_cases q : los S 2 0 = 0
  · have e : ba3 S t c = 0 := if_neg (fun z => z.1 q)
    simp (decide := true) (disch := omega) only [F_X0_bars_192, b1_some, b2_some, litI, neg1, nI_add, nI_mul, e1_p1, nI_e0, ib, ib1, ite_not, if_true, if_false, not_true_eq_false, not_false_eq_true, setI_hv, q, e]
  have el : F_X0_crowds (hv σ f) N (nI t) (nI (c / 6)) (e1 (c % 6)) (nI (los S 2 0 - 1)) = some (if 0 < c % 6 ∧ crw S t (c - 1) (los S 2 0 - 1) then nI 1 else nI 0, hv σ f) := by
    by_cases z : c % 6 = 0
    · rw [z, x_crow0 s, if_neg (fun w => by omega)]
    · have := x_crow g h (t := t) (r := c / 6) (k := c % 6 - 1) (a := los S 2 0 - 1) ht (by omega) (by omega) (by omega)
      rw [e1_of (by omega), this, show 6 * (c / 6) + (c % 6 - 1) = c - 1 by omega]
      by_cases w : crw S t (c - 1) (los S 2 0 - 1)
      · rw [if_pos w, if_pos ⟨by omega, w⟩]
      · rw [if_neg w, if_neg (fun v => w v.2)]
  have er : F_X0_crowds (hv σ f) N (nI t) (nI (c / 6)) (nI (c % 6 + 1)) (nI (los S 2 0 - 1)) = some (if c % 6 < 5 ∧ crw S t (c + 1) (los S 2 0 - 1) then nI 1 else nI 0, hv σ f) := by
    by_cases z : c % 6 = 5
    · rw [z, x_crow6 s, if_neg (fun w => by omega)]
    · have := x_crow g h (t := t) (r := c / 6) (k := c % 6 + 1) (a := los S 2 0 - 1) ht (by omega) (by omega) (by omega)
      rw [this, show 6 * (c / 6) + (c % 6 + 1) = c + 1 by omega]
      by_cases w : crw S t (c + 1) (los S 2 0 - 1)
      · rw [if_pos w, if_pos ⟨by omega, w⟩]
      · rw [if_neg w, if_neg (fun v => w v.2)]
  by_cases w1 : 0 < c % 6 ∧ crw S t (c - 1) (los S 2 0 - 1)
  · have e : ba3 S t c = 4 := if_pos ⟨q, Or.inl w1⟩
    rw [if_pos w1] at el
    simp (decide := true) (disch := omega) only [F_X0_bars_192, b1_some, b2_some, litI, neg1, nI_add, nI_mul, e1_p1, nI_e0, ib, ib1, ite_not, if_true, if_false, not_true_eq_false, not_false_eq_true, setI_hv, e1_of, q, e, eq_lit]
    rw [e1_m, el]
    simp (decide := true) (disch := omega) only [b1_some, b2_some, litI, neg1, nI_add, nI_mul, e1_p1, nI_e0, ib, ib1, ite_not, if_true, if_false, not_true_eq_false, not_false_eq_true, setI_hv]
  · rw [if_neg w1] at el
    by_cases w2 : c % 6 < 5 ∧ crw S t (c + 1) (los S 2 0 - 1)
    · have e : ba3 S t c = 4 := if_pos ⟨q, Or.inr w2⟩
      rw [if_pos w2] at er
      simp (decide := true) (disch := omega) only [F_X0_bars_192, b1_some, b2_some, litI, neg1, nI_add, nI_mul, e1_p1, nI_e0, ib, ib1, ite_not, if_true, if_false, not_true_eq_false, not_false_eq_true, setI_hv, e1_of, q, e, eq_lit, er]
      rw [e1_m, el]
      simp (decide := true) (disch := omega) only [b1_some, b2_some, litI, neg1, nI_add, nI_mul, e1_p1, nI_e0, ib, ib1, ite_not, if_true, if_false, not_true_eq_false, not_false_eq_true, setI_hv, er, eq_lit]
    · have e : ba3 S t c = 0 := if_neg (fun z => z.2.elim w1 w2)
      rw [if_neg w2] at er
      simp (decide := true) (disch := omega) only [F_X0_bars_192, b1_some, b2_some, litI, neg1, nI_add, nI_mul, e1_p1, nI_e0, ib, ib1, ite_not, if_true, if_false, not_true_eq_false, not_false_eq_true, setI_hv, e1_of, q, e, eq_lit, er]
      rw [e1_m, el]
      simp (decide := true) (disch := omega) only [b1_some, b2_some, litI, neg1, nI_add, nI_mul, e1_p1, nI_e0, ib, ib1, ite_not, if_true, if_false, not_true_eq_false, not_false_eq_true, setI_hv, er, eq_lit]
theorem x_bars (N : Nat) (t c : Int32) : OkXf N (fun σ => F_X0_bars σ N t c) (oBars t c) := by
  intro σ f S g h
  have s : SX N σ := h.1
  simp only [F_X0_bars, oBars, gd_hv s.t0, x0_isThing, x0_isCorner, b2_some]
  rcases in_split t 0 23 (by omega) (by omega) with ⟨i, -, hi, rfl⟩ | hk
  case inr => simp (decide := true) (disch := omega) only [b1_some, b2_some, litI, neg1, nI_add, nI_mul, e1_p1, nI_e0, ib, ib1, ite_not, if_true, if_false, not_true_eq_false, not_false_eq_true, setI_hv, hk, false_and]; exact ⟨_, rfl, h, fun _ _ _ => rfl⟩
  have qi := eq_true (inR_of (Nat.zero_le i) hi (by omega))
  rcases in_split c 0 47 (by omega) (by omega) with ⟨j, -, hj, rfl⟩ | hk
  case inr => simp (decide := true) (disch := omega) only [b1_some, b2_some, litI, neg1, nI_add, nI_mul, e1_p1, nI_e0, ib, ib1, ite_not, if_true, if_false, not_true_eq_false, not_false_eq_true, setI_hv, qi, hk, and_false]; exact ⟨_, rfl, h, fun _ _ _ => rfl⟩
  have qj := eq_true (inR_of (Nat.zero_le j) hj (by omega))
  have b := g.cn (c := j) (by omega)
  have dy := g.dy
  have lm := g.lm
  have l0' : los S 0 (j / 6) ≤ 100 := (lo_le g 0 (j / 6) (S.1 29) (Nat.le_refl _)).1
  have l1' : los S 1 0 ≤ 100 := (lo_le g 1 0 (S.1 29) (Nat.le_refl _)).1
  have sl := stn_le (S.2 9) (j / 6)
  have e192 := x_bars192 g h (t := i) (c := j) (by omega) (by omega)
  have e159 : ∀ y, F_X0_bars_159 (hv σ f) N (nI i) (nI (j / 6)) (nI (j % 6)) (e1 (los S 1 0)) (e1 (los S 2 0)) (e1 (S.2 13 j)) (nI y) = some (nI (y + ba2 S j + ba3 S i j), hv σ f) := fun y => by
    by_cases q1 : los S 1 0 = 0
    · have e : ba2 S j = 0 := if_neg (fun z => z.1 q1)
      simp (decide := true) (disch := omega) only [F_X0_bars_159, F_X0_bars_191, b1_some, b2_some, litI, neg1, nI_add, nI_mul, e1_p1, nI_e0, ib, ib1, ite_not, if_true, if_false, not_true_eq_false, not_false_eq_true, setI_hv, q1, e192, e]
    · by_cases q2 : S.2 13 j = 0
      · have e : ba2 S j = 0 := if_neg (fun z => z.2.1 q2)
        simp (decide := true) (disch := omega) only [F_X0_bars_159, F_X0_bars_191, b1_some, b2_some, litI, neg1, nI_add, nI_mul, e1_p1, nI_e0, ib, ib1, ite_not, if_true, if_false, not_true_eq_false, not_false_eq_true, setI_hv, q1, q2, e1_inj, e192, e, ite_self]
      · by_cases q3 : S.1 0 - (S.2 13 j - 1) < los S 1 0 - 1
        · have e : ba2 S j = 2 := if_pos ⟨q1, q2, q3⟩
          rw [e1_of (by omega : 0 < los S 1 0), e1_of (by omega : 0 < S.2 13 j)]
          simp (decide := true) (disch := omega) only [F_X0_bars_159, F_X0_bars_191, gd_hv s.t0, gI_hv s.t0, pI_hv s.t0, b1_some, b2_some, litI, neg1, nI_add, nI_mul, e1_p1, nI_e0, ib, ib1, ite_not, if_true, if_false, not_true_eq_false, not_false_eq_true, setI_hv, h.s0, nI_sub, le_lit, show ¬ los S 1 0 - 1 ≤ S.1 0 - (S.2 13 j - 1) by omega, e192, e]
        · have e : ba2 S j = 0 := if_neg (fun z => q3 z.2.2)
          rw [e1_of (by omega : 0 < los S 1 0), e1_of (by omega : 0 < S.2 13 j)]
          simp (decide := true) (disch := omega) only [F_X0_bars_159, F_X0_bars_191, gd_hv s.t0, gI_hv s.t0, pI_hv s.t0, b1_some, b2_some, litI, neg1, nI_add, nI_mul, e1_p1, nI_e0, ib, ib1, ite_not, if_true, if_false, not_true_eq_false, not_false_eq_true, setI_hv, h.s0, nI_sub, le_lit, show los S 1 0 - 1 ≤ S.1 0 - (S.2 13 j - 1) by omega, e192, e]
  have e114 : F_X0_bars_114 (hv σ f) N (nI i) (nI j) (nI (j / 6)) (nI (j % 6)) (e1 (los S 1 0)) (e1 (los S 2 0)) = some (nI (ba1 S j + ba2 S j + ba3 S i j), hv σ f) := by
    by_cases q : los S 0 (j / 6) = 0
    · have e : ba1 S j = 0 := if_neg (fun z => z.1 q)
      simp (decide := true) (disch := omega) only [F_X0_bars_114, F_X0_bars_158, gd_hv s.t0, gI_hv s.t0, pI_hv s.t0, s.R7, s.R12_0, s.C12, s.h12.CD, s.h12.CI, s.h12.CW, s.h12.G, s.h12.GD, s.h12.GI, s.h12.GW, b1_some, b2_some, litI, neg1, nI_add, nI_mul, e1_p1, nI_e0, ib, ib1, ite_not, if_true, if_false, not_true_eq_false, not_false_eq_true, setI_hv, x_roomFor g h, h.a13, q, e159, e]
    · have rf := x_roomFor g h (r := j / 6) (by omega)
      rw [e1_of (by omega : 0 < los S 0 (j / 6))] at rf
      by_cases q2 : los S 0 (j / 6) - 1 ≤ stn (S.2 9) (j / 6)
      · have e : ba1 S j = 1 := if_pos ⟨q, q2⟩
        simp (decide := true) (disch := omega) only [F_X0_bars_114, F_X0_bars_158, gd_hv s.t0, gI_hv s.t0, pI_hv s.t0, s.R7, s.R12_0, s.C12, s.h12.CD, s.h12.CI, s.h12.CW, s.h12.G, s.h12.GD, s.h12.GI, s.h12.GW, b1_some, b2_some, litI, neg1, nI_add, nI_mul, e1_p1, nI_e0, ib, ib1, ite_not, if_true, if_false, not_true_eq_false, not_false_eq_true, setI_hv, rf, h.a13, x_held s.h12 h.hd g.hb, lt_lit, show ¬ stn (S.2 9) (j / 6) < los S 0 (j / 6) - 1 by omega, e159, e]
      · have e : ba1 S j = 0 := if_neg (fun z => q2 z.2)
        simp (decide := true) (disch := omega) only [F_X0_bars_114, F_X0_bars_158, gd_hv s.t0, gI_hv s.t0, pI_hv s.t0, s.R7, s.R12_0, s.C12, s.h12.CD, s.h12.CI, s.h12.CW, s.h12.G, s.h12.GD, s.h12.GI, s.h12.GW, b1_some, b2_some, litI, neg1, nI_add, nI_mul, e1_p1, nI_e0, ib, ib1, ite_not, if_true, if_false, not_true_eq_false, not_false_eq_true, setI_hv, rf, h.a13, x_held s.h12 h.hd g.hb, lt_lit, show stn (S.2 9) (j / 6) < los S 0 (j / 6) - 1 by omega, e159, e]
  obtain ⟨m, hm⟩ := it_FU (body := fun rec st => B_X0_bars_37 N (nI i) (nI j) (nI (j / 6)) (nI (j % 6)) rec st.1 st.2.1 st.2.2.1 st.2.2.2) (fun k => (hv σ f, e1 (lo S 1 0 k), e1 (lo S 2 0 k), nI k)) 0 (S.1 29) (by omega) (by omega) (fun k _ hk rec => by
    obtain ⟨L, a, l1, l2, -, l3, l4, -⟩ := x_line g h hk
    have v1 := lv_le g hk 1 0
    have v2 := lv_le g hk 2 0
    show B_X0_bars_37 N (nI i) (nI j) (nI (j / 6)) (nI (j % 6)) rec (hv σ f) (e1 (lo S 1 0 k)) (e1 (lo S 2 0 k)) (nI k) = rec (hv σ f, e1 (if lv S k 1 0 = 0 then lo S 1 0 k else lv S k 1 0), e1 (if lv S k 2 0 = 0 then lo S 2 0 k else lv S k 2 0), nI (k + 1))
    by_cases q1 : lv S k 1 0 = 0 <;> by_cases q2 : lv S k 2 0 = 0
    all_goals simp (decide := true) (disch := omega) only [B_X0_bars_37, F_X0_bars_75, gd_hv s.t0, gI_hv s.t0, pI_hv s.t0, b1_some, b2_some, litI, neg1, nI_add, nI_mul, e1_p1, nI_e0, ib, ib1, ite_not, if_true, if_false, not_true_eq_false, not_false_eq_true, setI_hv, h.s29, le_lit, show ¬ S.1 29 ≤ k by omega, l1, l2, l3, l4, q1, q2, e1_inj])
  have lp : L_X0_bars_37 N (nI i) (nI j) (nI (j / 6)) (nI (j % 6)) FU (hv σ f, e1 0, e1 0, nI 0) = some (nI (ba1 S j + ba2 S j + ba3 S i j), hv σ f) := by
    refine hm.trans ?_
    show B_X0_bars_37 N (nI i) (nI j) (nI (j / 6)) (nI (j % 6)) m (hv σ f) (e1 (los S 1 0)) (e1 (los S 2 0)) (nI (S.1 29)) = _
    simp (decide := true) (disch := omega) only [B_X0_bars_37, gd_hv s.t0, gI_hv s.t0, pI_hv s.t0, b1_some, b2_some, litI, neg1, nI_add, nI_mul, e1_p1, nI_e0, ib, ib1, ite_not, if_true, if_false, not_true_eq_false, not_false_eq_true, setI_hv, h.s29, le_lit, Nat.le_refl, e114]
  refine ⟨f, ?_, ?_, fun _ _ _ => rfl⟩
  · simp (decide := true) (disch := omega) only [b1_some, b2_some, litI, neg1, nI_add, nI_mul, e1_p1, nI_e0, ib, ib1, ite_not, if_true, if_false, not_true_eq_false, not_false_eq_true, setI_hv, qi, qj, and_self, cl_I, c6, r6', lp]
  · simp (decide := true) (disch := omega) only [qi, qj, and_self, if_true]
    exact h
