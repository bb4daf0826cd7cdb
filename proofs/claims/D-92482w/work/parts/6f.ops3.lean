set_option maxRecDepth 100000
/-! pure law 15: count, right, causes, asked, beside, cost -/
theorem m_cost' {M : Nat} {σ : Hp} {f : Nat → Nat → Int32} {S : St} (g : Good S) (h : RepM M (hv σ f) S) {r : Nat} (hr : r < 8) : F_X10_costOf (hv σ f) M (nI r) = some (e1 (if dst S 0 r = 0 then 0 else 2 * (dst S 0 r - 1) + stn (S.2 9) r + 1), hv σ (fz f (M + 3) 8 (tn S 0 8))) := by
  have s : SM M σ := h.1
  have h' := h.zz 3 8 (tn S 0 8) (by omega)
  have dl := dst_le S 0 r
  have md := m_dst g h (a := 0) (b := r) (by omega) hr
  by_cases q : dst S 0 r = 0
  · simp (decide := true) (disch := omega) only [F_X10_costOf, gd_hv s.1, gI_hv s.1, pI_hv s.1, b1_some, b2_some, litI, neg1, nI_add, nI_mul, e1_p1, nI_e0, ib, ib1, ite_not, if_true, if_false, not_true_eq_false, not_false_eq_true, setI_hv, md, e1_inj, q]
  · simp (decide := true) (disch := omega) only [F_X10_costOf, gd_hv s.1, gI_hv s.1, pI_hv s.1, b1_some, b2_some, litI, neg1, nI_add, nI_mul, e1_p1, nI_e0, ib, ib1, ite_not, if_true, if_false, not_true_eq_false, not_false_eq_true, setI_hv, md, e1_inj, q, m_stand g h' hr, e1_of, e1_s, Nat.add_sub_cancel]
theorem x_cost' {N : Nat} {σ : Hp} {f : Nat → Nat → Int32} {S : St} (g : Good S) (h : RepX N (hv σ f) S) {r : Nat} (hr : r < 8) : F_X0_costOf (hv σ f) N (nI r) = some (e1 (if dst S 0 r = 0 then 0 else 2 * (dst S 0 r - 1) + stn (S.2 9) r + 1), hv σ f) := by
  have s : SX N σ := h.1
  have dl := dst_le S 0 r
  have md := x_dst h (a := 0) (b := r) (by omega) hr
  by_cases q : dst S 0 r = 0
  · simp (decide := true) (disch := omega) only [F_X0_costOf, gd_hv s.t0, gI_hv s.t0, pI_hv s.t0, b1_some, b2_some, litI, neg1, nI_add, nI_mul, e1_p1, nI_e0, ib, ib1, ite_not, if_true, if_false, not_true_eq_false, not_false_eq_true, setI_hv, md, e1_inj, q]
  · simp (decide := true) (disch := omega) only [F_X0_costOf, gd_hv s.t0, gI_hv s.t0, pI_hv s.t0, s.R7, b1_some, b2_some, litI, neg1, nI_add, nI_mul, e1_p1, nI_e0, ib, ib1, ite_not, if_true, if_false, not_true_eq_false, not_false_eq_true, setI_hv, md, e1_inj, q, x_held s.h12 h.hd g.hb hr, e1_of, e1_s, Nat.add_sub_cancel]
noncomputable def cst (S : St) (r : Nat) : Nat := if dst S 0 r = 0 then 0 else 2 * (dst S 0 r - 1) + stn (S.2 9) r + 1
noncomputable def oCost (r : Int32) (S : St) : Int32 × St := if inR r 0 7 then (e1 (cst S r.toNatClampNeg), S) else (-2, S)
theorem m_cost (M : Nat) (r : Int32) : OkMf M (fun σ => F_X10_cost σ M r) (oCost r) := by
  intro σ f S g h
  have s : SM M σ := h.1
  simp only [F_X10_cost, oCost, gd_hv s.1, x10_isRoom, b2_some]
  rcases in_split r 0 7 (by omega) (by omega) with ⟨i, -, hi, rfl⟩ | hk
  case inr => simp (decide := true) (disch := omega) only [b1_some, b2_some, litI, neg1, nI_add, nI_mul, e1_p1, nI_e0, ib, ib1, ite_not, if_true, if_false, not_true_eq_false, not_false_eq_true, setI_hv, hk]; exact ⟨_, rfl, h, fun _ _ _ => rfl⟩
  have qi := eq_true (inR_of (Nat.zero_le i) hi (by omega))
  simp (decide := true) (disch := omega) only [b1_some, b2_some, litI, neg1, nI_add, nI_mul, e1_p1, nI_e0, ib, ib1, ite_not, if_true, if_false, not_true_eq_false, not_false_eq_true, setI_hv, qi, m_cost' g h, cl_I]
  exact ⟨_, rfl, h.zz 3 8 _ (by omega), fun a k ha => fz_off (by omega)⟩
theorem x_cost (N : Nat) (r : Int32) : OkXf N (fun σ => F_X0_cost σ N r) (oCost r) := by
  intro σ f S g h
  have s : SX N σ := h.1
  simp only [F_X0_cost, oCost, gd_hv s.t0, x0_isRoom, b2_some]
  rcases in_split r 0 7 (by omega) (by omega) with ⟨i, -, hi, rfl⟩ | hk
  case inr => simp (decide := true) (disch := omega) only [b1_some, b2_some, litI, neg1, nI_add, nI_mul, e1_p1, nI_e0, ib, ib1, ite_not, if_true, if_false, not_true_eq_false, not_false_eq_true, setI_hv, hk]; exact ⟨_, rfl, h, fun _ _ _ => rfl⟩
  have qi := eq_true (inR_of (Nat.zero_le i) hi (by omega))
  simp (decide := true) (disch := omega) only [b1_some, b2_some, litI, neg1, nI_add, nI_mul, e1_p1, nI_e0, ib, ib1, ite_not, if_true, if_false, not_true_eq_false, not_false_eq_true, setI_hv, qi, x_cost' g h, cl_I]
  exact ⟨_, rfl, h, fun _ _ _ => rfl⟩
/-! asked -/
theorem r6 {c : Nat} (hc : c < 48) : nI c - nI (c / 6) * nI 6 = nI (c % 6) := by
  rw [← c6 hc]
  exact pk_rem (by omega) (by omega) (by omega)
theorem r6' {c : Nat} (hc : c < 48) : nI c - nI (c / 6 * 6) = nI (c % 6) := by
  rw [← nI_mul]
  exact r6 hc
noncomputable def oAsked (t r : Int32) (S : St) : Int32 × St := if inR t 0 23 ∧ inR r 0 7 then (if whr S t.toNatClampNeg = 0 then (-1, S) else if dst S r.toNatClampNeg ((whr S t.toNatClampNeg - 1) / 6) = 0 then (-1, S) else (nI (dst S r.toNatClampNeg ((whr S t.toNatClampNeg - 1) / 6) - 1 + (whr S t.toNatClampNeg - 1) % 6 + 1), S)) else (-2, S)
theorem m_asked (M : Nat) (t r : Int32) : OkMf M (fun σ => F_X10_asked σ M t r) (oAsked t r) := by
  intro σ f S g h
  have s : SM M σ := h.1
  simp only [F_X10_asked, oAsked, gd_hv s.1, x10_isThing, x10_isRoom, b2_some]
  rcases in_split t 0 23 (by omega) (by omega) with ⟨i, -, hi, rfl⟩ | hk
  case inr => simp (decide := true) (disch := omega) only [b1_some, b2_some, litI, neg1, nI_add, nI_mul, e1_p1, nI_e0, ib, ib1, ite_not, if_true, if_false, not_true_eq_false, not_false_eq_true, setI_hv, hk, false_and]; exact ⟨_, rfl, h, fun _ _ _ => rfl⟩
  have qi := eq_true (inR_of (Nat.zero_le i) hi (by omega))
  rcases in_split r 0 7 (by omega) (by omega) with ⟨j, -, hj, rfl⟩ | hk
  case inr => simp (decide := true) (disch := omega) only [b1_some, b2_some, litI, neg1, nI_add, nI_mul, e1_p1, nI_e0, ib, ib1, ite_not, if_true, if_false, not_true_eq_false, not_false_eq_true, setI_hv, qi, hk, and_false]; exact ⟨_, rfl, h, fun _ _ _ => rfl⟩
  have qj := eq_true (inR_of (Nat.zero_le j) hj (by omega))
  have hw := whr_le S i
  by_cases q : whr S i = 0
  · simp (decide := true) (disch := omega) only [F_X10_asked_41, b1_some, b2_some, litI, neg1, nI_add, nI_mul, e1_p1, nI_e0, ib, ib1, ite_not, if_true, if_false, not_true_eq_false, not_false_eq_true, setI_hv, qi, qj, m_where' g h, cl_I, and_self, e1_inj, q]
    exact ⟨_, rfl, h, fun _ _ _ => rfl⟩
  · have dl := dst_le S j ((whr S i - 1) / 6)
    have md := m_dst g h (a := j) (b := (whr S i - 1) / 6) (by omega) (by omega)
    have fin := h.zz 3 8 (tn S j 8) (by omega)
    by_cases q2 : dst S j ((whr S i - 1) / 6) = 0
    · simp (decide := true) (disch := omega) only [F_X10_asked_41, b1_some, b2_some, litI, neg1, nI_add, nI_mul, e1_p1, nI_e0, ib, ib1, ite_not, if_true, if_false, not_true_eq_false, not_false_eq_true, setI_hv, qi, qj, m_where' g h, cl_I, and_self, e1_inj, q, e1_of, c6, md, q2]
      exact ⟨_, rfl, fin, fun a k ha => fz_off (by omega)⟩
    · simp (decide := true) (disch := omega) only [F_X10_asked_41, b1_some, b2_some, litI, neg1, nI_add, nI_mul, e1_p1, nI_e0, ib, ib1, ite_not, if_true, if_false, not_true_eq_false, not_false_eq_true, setI_hv, qi, qj, m_where' g h, cl_I, and_self, e1_inj, q, e1_of, c6, md, q2, r6']
      exact ⟨_, rfl, fin, fun a k ha => fz_off (by omega)⟩
theorem x_asked (N : Nat) (t r : Int32) : OkXf N (fun σ => F_X0_asked σ N t r) (oAsked t r) := by
  intro σ f S g h
  have s : SX N σ := h.1
  simp only [F_X0_asked, oAsked, gd_hv s.t0, x0_isThing, x0_isRoom, b2_some]
  rcases in_split t 0 23 (by omega) (by omega) with ⟨i, -, hi, rfl⟩ | hk
  case inr => simp (decide := true) (disch := omega) only [b1_some, b2_some, litI, neg1, nI_add, nI_mul, e1_p1, nI_e0, ib, ib1, ite_not, if_true, if_false, not_true_eq_false, not_false_eq_true, setI_hv, hk, false_and]; exact ⟨_, rfl, h, fun _ _ _ => rfl⟩
  have qi := eq_true (inR_of (Nat.zero_le i) hi (by omega))
  rcases in_split r 0 7 (by omega) (by omega) with ⟨j, -, hj, rfl⟩ | hk
  case inr => simp (decide := true) (disch := omega) only [b1_some, b2_some, litI, neg1, nI_add, nI_mul, e1_p1, nI_e0, ib, ib1, ite_not, if_true, if_false, not_true_eq_false, not_false_eq_true, setI_hv, qi, hk, and_false]; exact ⟨_, rfl, h, fun _ _ _ => rfl⟩
  have qj := eq_true (inR_of (Nat.zero_le j) hj (by omega))
  have hw := whr_le S i
  by_cases q : whr S i = 0
  · simp (decide := true) (disch := omega) only [F_X0_asked_41, b1_some, b2_some, litI, neg1, nI_add, nI_mul, e1_p1, nI_e0, ib, ib1, ite_not, if_true, if_false, not_true_eq_false, not_false_eq_true, setI_hv, qi, qj, x_where' g h, cl_I, and_self, e1_inj, q]
    exact ⟨_, rfl, h, fun _ _ _ => rfl⟩
  · have dl := dst_le S j ((whr S i - 1) / 6)
    have md := x_dst h (a := j) (b := (whr S i - 1) / 6) (by omega) (by omega)
    by_cases q2 : dst S j ((whr S i - 1) / 6) = 0
    · simp (decide := true) (disch := omega) only [F_X0_asked_41, b1_some, b2_some, litI, neg1, nI_add, nI_mul, e1_p1, nI_e0, ib, ib1, ite_not, if_true, if_false, not_true_eq_false, not_false_eq_true, setI_hv, qi, qj, x_where' g h, cl_I, and_self, e1_inj, q, e1_of, c6, md, q2]
      exact ⟨_, rfl, h, fun _ _ _ => rfl⟩
    · simp (decide := true) (disch := omega) only [F_X0_asked_41, b1_some, b2_some, litI, neg1, nI_add, nI_mul, e1_p1, nI_e0, ib, ib1, ite_not, if_true, if_false, not_true_eq_false, not_false_eq_true, setI_hv, qi, qj, x_where' g h, cl_I, and_self, e1_inj, q, e1_of, c6, md, q2, r6']
      exact ⟨_, rfl, h, fun _ _ _ => rfl⟩
/-! causes -/
def oCauses (c t : Int32) (S : St) : Int32 × St := if inR c 0 47 ∧ inR t 0 23 then (if S.2 9 c.toNatClampNeg = 0 ∨ S.2 9 c.toNatClampNeg = t.toNatClampNeg + 1 then (-4, S) else
  (nI ((if S.1 6 ≤ lkn S t.toNatClampNeg (S.2 9 c.toNatClampNeg - 1) then 1 else 0) + (if S.2 11 c.toNatClampNeg = t.toNatClampNeg + 1 then 2 else 0) + (if ¬ whr S t.toNatClampNeg = 0 ∧ (whr S t.toNatClampNeg - 1) % 6 = c.toNatClampNeg % 6 ∧ jl S ((whr S t.toNatClampNeg - 1) / 6) (c.toNatClampNeg / 6) (S.1 1) = 1 then 4 else 0)), S)) else (-2, S)
theorem m_causes (M : Nat) (c t : Int32) : OkMf M (fun σ => F_X10_causes σ M c t) (oCauses c t) := by
  intro σ f S g h
  have s : SM M σ := h.1
  simp only [F_X10_causes, oCauses, gd_hv s.1, x10_isThing, x10_isCorner, b2_some]
  rcases in_split c 0 47 (by omega) (by omega) with ⟨i, -, hi, rfl⟩ | hk
  case inr => simp (decide := true) (disch := omega) only [b1_some, b2_some, litI, neg1, nI_add, nI_mul, e1_p1, nI_e0, ib, ib1, ite_not, if_true, if_false, not_true_eq_false, not_false_eq_true, setI_hv, hk, false_and]; exact ⟨_, rfl, h, fun _ _ _ => rfl⟩
  have qi := eq_true (inR_of (Nat.zero_le i) hi (by omega))
  rcases in_split t 0 23 (by omega) (by omega) with ⟨j, -, hj, rfl⟩ | hk
  case inr => simp (decide := true) (disch := omega) only [b1_some, b2_some, litI, neg1, nI_add, nI_mul, e1_p1, nI_e0, ib, ib1, ite_not, if_true, if_false, not_true_eq_false, not_false_eq_true, setI_hv, qi, hk, and_false]; exact ⟨_, rfl, h, fun _ _ _ => rfl⟩
  have qj := eq_true (inR_of (Nat.zero_le j) hj (by omega))
  have hw := whr_le S j
  have b := g.cn (c := i) (by omega)
  have tl := g.tl
  refine ⟨f, ?_, ?_, fun _ _ _ => rfl⟩
  · by_cases q1 : S.2 9 i = 0
    · simp (decide := true) (disch := omega) only [gd_hv s.1, gI_hv s.1, pI_hv s.1, s.R9, s.A9, s.W9, b1_some, b2_some, litI, neg1, nI_add, nI_mul, e1_p1, nI_e0, ib, ib1, ite_not, if_true, if_false, not_true_eq_false, not_false_eq_true, setI_hv, qi, qj, h.a9, e1_inj, q1, cl_I, and_self, true_or]
    by_cases q2 : S.2 9 i = j + 1
    · simp (decide := true) (disch := omega) only [gd_hv s.1, gI_hv s.1, pI_hv s.1, s.R9, s.A9, s.W9, b1_some, b2_some, litI, neg1, nI_add, nI_mul, e1_p1, nI_e0, ib, ib1, ite_not, if_true, if_false, not_true_eq_false, not_false_eq_true, setI_hv, qi, qj, h.a9, e1_inj, e1_nI, q1, q2, cl_I, and_self, or_true, ite_self]
    have hl := lkn_le S j (S.2 9 i - 1)
    have lk := m_lk g h (a := j) (b := S.2 9 i - 1) (by omega) (by omega)
    have e9 : hI (hv σ f) (M + 6) i = nI (S.2 9 i - 1) := (h.a9 (by omega)).trans (e1_of (by omega))
    have e9' : f (M + 6) i = nI (S.2 9 i - 1) := e9
    have n1 : ¬ nI (S.2 9 i - 1) = nI j := by
      rw [eq_lit (by omega) (by omega)]
      omega
    have e88 : ∀ y0 y1, F_X10_causes_88 (hv σ f) M (nI i) (e1 (whr S j)) (nI y0) (nI y1) = some (nI (y1 + y0 + if ¬ whr S j = 0 ∧ (whr S j - 1) % 6 = i % 6 ∧ jl S ((whr S j - 1) / 6) (i / 6) (S.1 1) = 1 then 4 else 0), hv σ f) := fun y0 y1 => by
      by_cases w0 : whr S j = 0
      · simp (decide := true) (disch := omega) only [F_X10_causes_88, b1_some, b2_some, litI, neg1, nI_add, nI_mul, e1_p1, nI_e0, ib, ib1, ite_not, if_true, if_false, not_true_eq_false, not_false_eq_true, setI_hv, w0, false_and, Nat.add_zero]
      · by_cases w1 : (whr S j - 1) % 6 = i % 6
        · have jo := m_joined g h (a := (whr S j - 1) / 6) (b := i / 6) (by omega) (by omega)
          rcases jl_01 S ((whr S j - 1) / 6) (i / 6) (S.1 1) with z | z
          · simp (decide := true) (disch := omega) only [F_X10_causes_88, b1_some, b2_some, litI, neg1, nI_add, nI_mul, e1_p1, nI_e0, ib, ib1, ite_not, if_true, if_false, not_true_eq_false, not_false_eq_true, setI_hv, e1_of, w0, c6, r6', eq_lit, w1, jo, z, and_false]
          · simp (decide := true) (disch := omega) only [F_X10_causes_88, b1_some, b2_some, litI, neg1, nI_add, nI_mul, e1_p1, nI_e0, ib, ib1, ite_not, if_true, if_false, not_true_eq_false, not_false_eq_true, setI_hv, e1_of, w0, c6, r6', eq_lit, w1, jo, z, and_self]
        · simp (decide := true) (disch := omega) only [F_X10_causes_88, b1_some, b2_some, litI, neg1, nI_add, nI_mul, e1_p1, nI_e0, ib, ib1, ite_not, if_true, if_false, not_true_eq_false, not_false_eq_true, setI_hv, e1_of, w0, c6, r6', eq_lit, w1, and_false, false_and]
    by_cases q3 : S.1 6 ≤ lkn S j (S.2 9 i - 1) <;> by_cases q4 : S.2 11 i = j + 1
    · simp (decide := true) (disch := omega) only [F_X10_causes_69, gd_hv s.1, gI_hv s.1, pI_hv s.1, s.R9, s.A9, s.W9, s.R11, s.A11, s.W11, b1_some, b2_some, litI, neg1, nI_add, nI_mul, e1_p1, nI_e0, ib, ib1, ite_not, if_true, if_false, not_true_eq_false, not_false_eq_true, setI_hv, qi, qj, e9', n1, m_where' g h, lk, h.s6, h.a11, lt_lit, e1_nI, q1, q2, q3, q4, e88, cl_I, and_self, or_self, show ¬ lkn S j (S.2 9 i - 1) < S.1 6 by omega]
    · simp (decide := true) (disch := omega) only [F_X10_causes_69, gd_hv s.1, gI_hv s.1, pI_hv s.1, s.R9, s.A9, s.W9, s.R11, s.A11, s.W11, b1_some, b2_some, litI, neg1, nI_add, nI_mul, e1_p1, nI_e0, ib, ib1, ite_not, if_true, if_false, not_true_eq_false, not_false_eq_true, setI_hv, qi, qj, e9', n1, m_where' g h, lk, h.s6, h.a11, lt_lit, e1_nI, q1, q2, q3, q4, e88, cl_I, and_self, or_self, show ¬ lkn S j (S.2 9 i - 1) < S.1 6 by omega]
    · simp (decide := true) (disch := omega) only [F_X10_causes_69, gd_hv s.1, gI_hv s.1, pI_hv s.1, s.R9, s.A9, s.W9, s.R11, s.A11, s.W11, b1_some, b2_some, litI, neg1, nI_add, nI_mul, e1_p1, nI_e0, ib, ib1, ite_not, if_true, if_false, not_true_eq_false, not_false_eq_true, setI_hv, qi, qj, e9', n1, m_where' g h, lk, h.s6, h.a11, lt_lit, e1_nI, q1, q2, q3, q4, e88, cl_I, and_self, or_self, show lkn S j (S.2 9 i - 1) < S.1 6 by omega]
    · simp (decide := true) (disch := omega) only [F_X10_causes_69, gd_hv s.1, gI_hv s.1, pI_hv s.1, s.R9, s.A9, s.W9, s.R11, s.A11, s.W11, b1_some, b2_some, litI, neg1, nI_add, nI_mul, e1_p1, nI_e0, ib, ib1, ite_not, if_true, if_false, not_true_eq_false, not_false_eq_true, setI_hv, qi, qj, e9', n1, m_where' g h, lk, h.s6, h.a11, lt_lit, e1_nI, q1, q2, q3, q4, e88, cl_I, and_self, or_self, show lkn S j (S.2 9 i - 1) < S.1 6 by omega]
  · repeat' split
    all_goals exact h
theorem x_causes (N : Nat) (c t : Int32) : OkXf N (fun σ => F_X0_causes σ N c t) (oCauses c t) := by
  intro σ f S g h
  have s : SX N σ := h.1
  simp only [F_X0_causes, oCauses, gd_hv s.t0, x0_isThing, x0_isCorner, b2_some]
  rcases in_split c 0 47 (by omega) (by omega) with ⟨i, -, hi, rfl⟩ | hk
  case inr => simp (decide := true) (disch := omega) only [b1_some, b2_some, litI, neg1, nI_add, nI_mul, e1_p1, nI_e0, ib, ib1, ite_not, if_true, if_false, not_true_eq_false, not_false_eq_true, setI_hv, hk, false_and]; exact ⟨_, rfl, h, fun _ _ _ => rfl⟩
  have qi := eq_true (inR_of (Nat.zero_le i) hi (by omega))
  rcases in_split t 0 23 (by omega) (by omega) with ⟨j, -, hj, rfl⟩ | hk
  case inr => simp (decide := true) (disch := omega) only [b1_some, b2_some, litI, neg1, nI_add, nI_mul, e1_p1, nI_e0, ib, ib1, ite_not, if_true, if_false, not_true_eq_false, not_false_eq_true, setI_hv, qi, hk, and_false]; exact ⟨_, rfl, h, fun _ _ _ => rfl⟩
  have qj := eq_true (inR_of (Nat.zero_le j) hj (by omega))
  have hw := whr_le S j
  have b := g.cn (c := i) (by omega)
  have tl := g.tl
  have th := s.h12.there (f := f) (c := i) (by omega) (by omega : S.2 9 i < 1000) (h.a9 (by omega))
  have gh := s.h12.ghost (f := f) (c := i) (by omega) (by omega : S.2 11 i < 1000) (by omega : S.2 12 i < 1000) (h.a11 (by omega)) (h.a12 (by omega))
  refine ⟨f, ?_, ?_, fun _ _ _ => rfl⟩
  · by_cases q1 : S.2 9 i = 0
    · simp (decide := true) (disch := omega) only [gd_hv s.t0, gI_hv s.t0, pI_hv s.t0, s.R7, s.R12_0, s.C12, s.h12.CD, s.h12.CI, s.h12.CW, s.h12.G, s.h12.GD, s.h12.GI, s.h12.GW, th, b1_some, b2_some, litI, neg1, nI_add, nI_mul, e1_p1, nI_e0, ib, ib1, ite_not, if_true, if_false, not_true_eq_false, not_false_eq_true, setI_hv, qi, qj, q1, cl_I, and_self, true_or, ne_eq]
    by_cases q2 : S.2 9 i = j + 1
    · simp (decide := true) (disch := omega) only [gd_hv s.t0, gI_hv s.t0, pI_hv s.t0, s.R7, s.R12_0, s.C12, s.h12.CD, s.h12.CI, s.h12.CW, s.h12.G, s.h12.GD, s.h12.GI, s.h12.GW, th, b1_some, b2_some, litI, neg1, nI_add, nI_mul, e1_p1, nI_e0, ib, ib1, ite_not, if_true, if_false, not_true_eq_false, not_false_eq_true, setI_hv, qi, qj, h.a9, e1_s, q1, q2, cl_I, and_self, or_true, ite_self, ne_eq, eq_lit]
    have e9' : f (N + 12 + (2 + 2 * i)) 0 = nI (S.2 9 i - 1) := (h.a9 (by omega)).trans (e1_of (by omega))
    have lk := xl_isLike g s h.lk (a := j) (b := S.2 9 i - 1) (by omega) (by omega)
    have n1 : ¬ nI (S.2 9 i - 1) = nI j := by
      rw [eq_lit (by omega) (by omega)]
      omega
    have e99 : ∀ y0 y1, F_X0_causes_99 (hv σ f) N (nI i) (e1 (whr S j)) (nI y0) (nI y1) = some (nI (y1 + y0 + if ¬ whr S j = 0 ∧ (whr S j - 1) % 6 = i % 6 ∧ jl S ((whr S j - 1) / 6) (i / 6) (S.1 1) = 1 then 4 else 0), hv σ f) := fun y0 y1 => by
      by_cases w0 : whr S j = 0
      · simp (decide := true) (disch := omega) only [F_X0_causes_99, b1_some, b2_some, litI, neg1, nI_add, nI_mul, e1_p1, nI_e0, ib, ib1, ite_not, if_true, if_false, not_true_eq_false, not_false_eq_true, setI_hv, w0, false_and, Nat.add_zero]
      · by_cases w1 : (whr S j - 1) % 6 = i % 6
        · rcases jl_01 S ((whr S j - 1) / 6) (i / 6) (S.1 1) with z | z
          · simp (decide := true) (disch := omega) only [F_X0_causes_99, gd_hv s.t0, gI_hv s.t0, pI_hv s.t0, s.R0, s.J, s.AJ, h.jo, b1_some, b2_some, litI, neg1, nI_add, nI_mul, e1_p1, nI_e0, ib, ib1, ite_not, if_true, if_false, not_true_eq_false, not_false_eq_true, setI_hv, e1_of, w0, c6, r6', eq_lit, w1, z, and_false]
          · simp (decide := true) (disch := omega) only [F_X0_causes_99, gd_hv s.t0, gI_hv s.t0, pI_hv s.t0, s.R0, s.J, s.AJ, h.jo, b1_some, b2_some, litI, neg1, nI_add, nI_mul, e1_p1, nI_e0, ib, ib1, ite_not, if_true, if_false, not_true_eq_false, not_false_eq_true, setI_hv, e1_of, w0, c6, r6', eq_lit, w1, z, and_self]
        · simp (decide := true) (disch := omega) only [F_X0_causes_99, b1_some, b2_some, litI, neg1, nI_add, nI_mul, e1_p1, nI_e0, ib, ib1, ite_not, if_true, if_false, not_true_eq_false, not_false_eq_true, setI_hv, e1_of, w0, c6, r6', eq_lit, w1, and_false, false_and]
    have e69 : ∀ y1, F_X0_causes_69 (hv σ f) N (nI i) (nI j) (N + 12 + (2 + 2 * i)) (e1 (whr S j)) (nI y1) = some (nI (y1 + (if S.2 11 i = j + 1 then 2 else 0) + if ¬ whr S j = 0 ∧ (whr S j - 1) % 6 = i % 6 ∧ jl S ((whr S j - 1) / 6) (i / 6) (S.1 1) = 1 then 4 else 0), hv σ f) := fun y1 => by
      by_cases w0 : S.2 11 i = 0
      · simp (decide := true) (disch := omega) only [F_X0_causes_69, F_X0_causes_98, s.R7, s.R12_0, s.C12, s.h12.CD, s.h12.CI, s.h12.CW, s.h12.G, s.h12.GD, s.h12.GI, s.h12.GW, gh, b1_some, b2_some, litI, neg1, nI_add, nI_mul, e1_p1, nI_e0, ib, ib1, ite_not, if_true, if_false, not_true_eq_false, not_false_eq_true, setI_hv, w0, ne_eq, false_and, e99, show ¬ (0 = j + 1) by omega]
      · have w1 : ¬ S.2 12 i = 0 := by omega
        by_cases w2 : S.2 11 i = j + 1
        · simp (decide := true) (disch := omega) only [F_X0_causes_69, F_X0_causes_98, s.R7, s.R12_0, s.C12, s.h12.CD, s.h12.CI, s.h12.CW, s.h12.G, s.h12.GD, s.h12.GI, s.h12.GW, gh, b1_some, b2_some, litI, neg1, nI_add, nI_mul, e1_p1, nI_e0, ib, ib1, ite_not, if_true, if_false, not_true_eq_false, not_false_eq_true, setI_hv, w0, w1, ne_eq, and_self, and_true, e99, h.a11, e1_nI, eq_lit, w2, e1_s, show ¬ (j + 1 = 0) by omega]
        · simp (decide := true) (disch := omega) only [F_X0_causes_69, F_X0_causes_98, s.R7, s.R12_0, s.C12, s.h12.CD, s.h12.CI, s.h12.CW, s.h12.G, s.h12.GD, s.h12.GI, s.h12.GW, gh, b1_some, b2_some, litI, neg1, nI_add, nI_mul, e1_p1, nI_e0, ib, ib1, ite_not, if_true, if_false, not_true_eq_false, not_false_eq_true, setI_hv, w0, w1, ne_eq, and_self, e99, h.a11, e1_nI, eq_lit, w2]
    by_cases q3 : S.1 6 ≤ lkn S j (S.2 9 i - 1)
    · simp (decide := true) (disch := omega) only [gd_hv s.t0, gI_hv s.t0, pI_hv s.t0, s.R7, s.R12_0, s.C12, s.h12.CD, s.h12.CI, s.h12.CW, s.h12.G, s.h12.GD, s.h12.GI, s.h12.GW, th, b1_some, b2_some, litI, neg1, nI_add, nI_mul, e1_p1, nI_e0, ib, ib1, ite_not, if_true, if_false, not_true_eq_false, not_false_eq_true, setI_hv, qi, qj, e9', n1, x_where' g h, lk, q1, q2, q3, e69, cl_I, and_self, or_self, ne_eq, eq_lit]
    · simp (decide := true) (disch := omega) only [gd_hv s.t0, gI_hv s.t0, pI_hv s.t0, s.R7, s.R12_0, s.C12, s.h12.CD, s.h12.CI, s.h12.CW, s.h12.G, s.h12.GD, s.h12.GI, s.h12.GW, th, b1_some, b2_some, litI, neg1, nI_add, nI_mul, e1_p1, nI_e0, ib, ib1, ite_not, if_true, if_false, not_true_eq_false, not_false_eq_true, setI_hv, qi, qj, e9', n1, x_where' g h, lk, q1, q2, q3, e69, cl_I, and_self, or_self, ne_eq, eq_lit]
  · repeat' split
    all_goals exact h
