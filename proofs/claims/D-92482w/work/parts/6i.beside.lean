set_option maxRecDepth 100000
/-! pure law 18: beside -/
theorem nI_e (k : Nat) : nI k + e1 0 = e1 k := by
  unfold e1
  rw [show nI 0 - 1 = -(1 : Int32) from by decide, Int32.sub_eq_add_neg]
theorem e1_lt {a b : Nat} (ha : a < 2147483648) (hb : b < 2147483648) : (e1 a < nI b) = (a ≤ b) := by
  apply propext
  rw [Int32.lt_iff_toInt_lt, e1_toInt ha, tI hb]
  omega
theorem nI_le_e1 {a b : Nat} (ha : a < 2147483648) (hb : b < 2147483648) : (nI b ≤ e1 a) = (b < a) := by
  apply propext
  rw [Int32.le_iff_toInt_le, e1_toInt ha, tI hb]
  omega
/-- downwards from k - 1; upwards, n left to look at -/
def nbd (T : Nat → Nat) (b : Nat) : Nat → Nat
  | 0 => 0
  | k + 1 => if T (b + k) = 0 then nbd T b k else T (b + k)
def nbu (T : Nat → Nat) (b : Nat) : Nat → Nat
  | 0 => 0
  | n + 1 => if T (b + (5 - n)) = 0 then nbu T b n else T (b + (5 - n))
def oBeside (t w : Int32) (S : St) : Int32 × St := if inR t 0 23 then (if inR w 0 1 then (if whr S t.toNatClampNeg = 0 then (-1, S) else (if w = nI 0 then e1 (nbd (S.2 9) ((whr S t.toNatClampNeg - 1) / 6 * 6) ((whr S t.toNatClampNeg - 1) % 6)) else e1 (nbu (S.2 9) ((whr S t.toNatClampNeg - 1) / 6 * 6) (5 - (whr S t.toNatClampNeg - 1) % 6)), S)) else (-3, S)) else (-2, S)
theorem m_bd {M : Nat} {σ : Hp} {f : Nat → Nat → Int32} {S : St} (g : Good S) (h : RepM M (hv σ f) S) {c : Nat} (hc : c < 48) : ∀ k n, k ≤ c % 6 → k + 1 < n → it (fun rec st => B_X10_beside_49 (hv σ f) M (nI 0) (nI c) rec st.1 st.2) n (e1 0, e1 (c / 6 * 6 + k)) = some (e1 (nbd (S.2 9) (c / 6 * 6) k), hv σ f) := by
  have s : SM M σ := h.1
  intro k
  induction k with
  | zero =>
    intro n hk hn
    obtain ⟨n, rfl⟩ : ∃ m, n = m + 1 := ⟨n - 1, by omega⟩
    rw [it_s]
    show B_X10_beside_49 (hv σ f) M (nI 0) (nI c) (it _ n) (e1 0) (e1 (c / 6 * 6 + 0)) = _
    generalize it (fun rec st => B_X10_beside_49 (hv σ f) M (nI 0) (nI c) rec st.1 st.2) n = r
    simp (decide := true) (disch := omega) only [B_X10_beside_49, b1_some, b2_some, litI, neg1, nI_add, nI_mul, e1_p1, nI_e0, ib, ib1, ite_not, if_true, if_false, not_true_eq_false, not_false_eq_true, setI_hv, c6, e1_lt, Nat.add_zero, Nat.le_refl]
    rfl
  | succ k ih =>
    intro n hk hn
    obtain ⟨n, rfl⟩ : ∃ m, n = m + 1 := ⟨n - 1, by omega⟩
    have ih' := ih n (by omega) (by omega)
    rw [it_s]
    have b := g.cn (c := c / 6 * 6 + k) (by omega)
    have bn : k + 2 < n + 1 := hn
    show B_X10_beside_49 (hv σ f) M (nI 0) (nI c) (it _ n) (e1 0) (e1 (c / 6 * 6 + k + 1)) = some (e1 (if S.2 9 (c / 6 * 6 + k) = 0 then nbd (S.2 9) (c / 6 * 6) k else S.2 9 (c / 6 * 6 + k)), hv σ f)
    by_cases q : S.2 9 (c / 6 * 6 + k) = 0
    · revert ih'
      generalize it (fun rec st => B_X10_beside_49 (hv σ f) M (nI 0) (nI c) rec st.1 st.2) n = r
      intro ih'
      simp (decide := true) (disch := omega) only [B_X10_beside_49, gd_hv s.1, gI_hv s.1, pI_hv s.1, s.R9, s.A9, s.W9, b1_some, b2_some, litI, neg1, nI_add, nI_mul, e1_p1, nI_e0, ib, ib1, ite_not, if_true, if_false, not_true_eq_false, not_false_eq_true, setI_hv, c6, e1_s, lt_lit, le_lit, show ¬ c / 6 * 6 + k < c / 6 * 6 by omega, show ¬ c / 6 * 6 + 6 ≤ c / 6 * 6 + k by omega, h.a9, q, nI_e, ih']
    · obtain ⟨n, rfl⟩ : ∃ m, n = m + 1 := ⟨n - 1, by omega⟩
      have step : it (fun rec st => B_X10_beside_49 (hv σ f) M (nI 0) (nI c) rec st.1 st.2) (n + 1) (e1 (S.2 9 (c / 6 * 6 + k)), e1 (c / 6 * 6 + k)) = some (e1 (S.2 9 (c / 6 * 6 + k)), hv σ f) := by
        rw [it_s]
        generalize it (fun rec st => B_X10_beside_49 (hv σ f) M (nI 0) (nI c) rec st.1 st.2) n = r
        by_cases z : k = 0
        · subst z
          simp (decide := true) (disch := omega) only [B_X10_beside_49, b1_some, b2_some, litI, neg1, nI_add, nI_mul, e1_p1, nI_e0, ib, ib1, ite_not, if_true, if_false, not_true_eq_false, not_false_eq_true, setI_hv, c6, e1_lt, Nat.add_zero, Nat.le_refl]
        · simp (decide := true) (disch := omega) only [B_X10_beside_49, b1_some, b2_some, litI, neg1, nI_add, nI_mul, e1_p1, nI_e0, ib, ib1, ite_not, if_true, if_false, not_true_eq_false, not_false_eq_true, setI_hv, c6, e1_lt, nI_le_e1, show ¬ c / 6 * 6 + k ≤ c / 6 * 6 by omega, show ¬ c / 6 * 6 + 6 < c / 6 * 6 + k by omega, e1_inj, q]
      revert step
      generalize it (fun rec st => B_X10_beside_49 (hv σ f) M (nI 0) (nI c) rec st.1 st.2) (n + 1) = r
      intro step
      simp (decide := true) (disch := omega) only [B_X10_beside_49, gd_hv s.1, gI_hv s.1, pI_hv s.1, s.R9, s.A9, s.W9, b1_some, b2_some, litI, neg1, nI_add, nI_mul, e1_p1, nI_e0, ib, ib1, ite_not, if_true, if_false, not_true_eq_false, not_false_eq_true, setI_hv, c6, e1_s, lt_lit, le_lit, show ¬ c / 6 * 6 + k < c / 6 * 6 by omega, show ¬ c / 6 * 6 + 6 ≤ c / 6 * 6 + k by omega, h.a9, q, nI_e, step]
theorem m_bu {M : Nat} {σ : Hp} {f : Nat → Nat → Int32} {S : St} (g : Good S) (h : RepM M (hv σ f) S) {c : Nat} (hc : c < 48) : ∀ k n, k ≤ 5 → k + 1 < n → it (fun rec st => B_X10_beside_49 (hv σ f) M (nI 1) (nI c) rec st.1 st.2) n (e1 0, nI (c / 6 * 6 + (6 - k))) = some (e1 (nbu (S.2 9) (c / 6 * 6) k), hv σ f) := by
  have s : SM M σ := h.1
  intro k
  induction k with
  | zero =>
    intro n hk hn
    obtain ⟨n, rfl⟩ : ∃ m, n = m + 1 := ⟨n - 1, by omega⟩
    rw [it_s]
    show B_X10_beside_49 (hv σ f) M (nI 1) (nI c) (it _ n) (e1 0) (nI (c / 6 * 6 + 6)) = _
    generalize it (fun rec st => B_X10_beside_49 (hv σ f) M (nI 1) (nI c) rec st.1 st.2) n = r
    simp (decide := true) (disch := omega) only [B_X10_beside_49, b1_some, b2_some, litI, neg1, nI_add, nI_mul, e1_p1, nI_e0, ib, ib1, ite_not, if_true, if_false, not_true_eq_false, not_false_eq_true, setI_hv, c6, lt_lit, le_lit, show ¬ c / 6 * 6 + 6 < c / 6 * 6 by omega, Nat.le_refl]
    rfl
  | succ k ih =>
    intro n hk hn
    obtain ⟨n, rfl⟩ : ∃ m, n = m + 1 := ⟨n - 1, by omega⟩
    have ih' := ih n (by omega) (by omega)
    rw [it_s]
    have e6 : 6 - (k + 1) = 5 - k := by omega
    have e7 : c / 6 * 6 + (5 - k) + 1 = c / 6 * 6 + (6 - k) := by omega
    have b := g.cn (c := c / 6 * 6 + (5 - k)) (by omega)
    rw [e6]
    show B_X10_beside_49 (hv σ f) M (nI 1) (nI c) (it _ n) (e1 0) (nI (c / 6 * 6 + (5 - k))) = some (e1 (if S.2 9 (c / 6 * 6 + (5 - k)) = 0 then nbu (S.2 9) (c / 6 * 6) k else S.2 9 (c / 6 * 6 + (5 - k))), hv σ f)
    by_cases q : S.2 9 (c / 6 * 6 + (5 - k)) = 0
    · revert ih'
      generalize it (fun rec st => B_X10_beside_49 (hv σ f) M (nI 1) (nI c) rec st.1 st.2) n = r
      intro ih'
      simp (decide := true) (disch := omega) only [B_X10_beside_49, gd_hv s.1, gI_hv s.1, pI_hv s.1, s.R9, s.A9, s.W9, b1_some, b2_some, litI, neg1, nI_add, nI_mul, e1_p1, nI_e0, ib, ib1, ite_not, if_true, if_false, not_true_eq_false, not_false_eq_true, setI_hv, c6, lt_lit, le_lit, show ¬ c / 6 * 6 + (5 - k) < c / 6 * 6 by omega, show ¬ c / 6 * 6 + 6 ≤ c / 6 * 6 + (5 - k) by omega, h.a9, q, e7, ih']
    · obtain ⟨n, rfl⟩ : ∃ m, n = m + 1 := ⟨n - 1, by omega⟩
      have step : it (fun rec st => B_X10_beside_49 (hv σ f) M (nI 1) (nI c) rec st.1 st.2) (n + 1) (e1 (S.2 9 (c / 6 * 6 + (5 - k))), nI (c / 6 * 6 + (6 - k))) = some (e1 (S.2 9 (c / 6 * 6 + (5 - k))), hv σ f) := by
        rw [it_s]
        generalize it (fun rec st => B_X10_beside_49 (hv σ f) M (nI 1) (nI c) rec st.1 st.2) n = r
        by_cases z : k = 0
        · subst z
          simp (decide := true) (disch := omega) only [B_X10_beside_49, b1_some, b2_some, litI, neg1, nI_add, nI_mul, e1_p1, nI_e0, ib, ib1, ite_not, if_true, if_false, not_true_eq_false, not_false_eq_true, setI_hv, c6, lt_lit, le_lit, show ¬ c / 6 * 6 + (6 - 0) < c / 6 * 6 by omega, show c / 6 * 6 + 6 ≤ c / 6 * 6 + (6 - 0) by omega]
        · simp (decide := true) (disch := omega) only [B_X10_beside_49, b1_some, b2_some, litI, neg1, nI_add, nI_mul, e1_p1, nI_e0, ib, ib1, ite_not, if_true, if_false, not_true_eq_false, not_false_eq_true, setI_hv, c6, lt_lit, le_lit, show ¬ c / 6 * 6 + (6 - k) < c / 6 * 6 by omega, show ¬ c / 6 * 6 + 6 ≤ c / 6 * 6 + (6 - k) by omega, e1_inj, q]
      revert step
      generalize it (fun rec st => B_X10_beside_49 (hv σ f) M (nI 1) (nI c) rec st.1 st.2) (n + 1) = r
      intro step
      simp (decide := true) (disch := omega) only [B_X10_beside_49, gd_hv s.1, gI_hv s.1, pI_hv s.1, s.R9, s.A9, s.W9, b1_some, b2_some, litI, neg1, nI_add, nI_mul, e1_p1, nI_e0, ib, ib1, ite_not, if_true, if_false, not_true_eq_false, not_false_eq_true, setI_hv, c6, lt_lit, le_lit, show ¬ c / 6 * 6 + (5 - k) < c / 6 * 6 by omega, show ¬ c / 6 * 6 + 6 ≤ c / 6 * 6 + (5 - k) by omega, h.a9, q, e7, step]
theorem m_beside (M : Nat) (t w : Int32) : OkMf M (fun σ => F_X10_beside σ M t w) (oBeside t w) := by
  intro σ f S g h
  have s : SM M σ := h.1
  simp only [F_X10_beside, oBeside, gd_hv s.1, x10_isThing, x10_inR _ w 0 1 0 1 rfl rfl, b2_some]
  rcases in_split t 0 23 (by omega) (by omega) with ⟨i, -, hi, rfl⟩ | hk
  case inr => simp (decide := true) (disch := omega) only [b1_some, b2_some, litI, neg1, nI_add, nI_mul, e1_p1, nI_e0, ib, ib1, ite_not, if_true, if_false, not_true_eq_false, not_false_eq_true, setI_hv, hk]; exact ⟨_, rfl, h, fun _ _ _ => rfl⟩
  have qi := eq_true (inR_of (Nat.zero_le i) hi (by omega))
  rcases in_split w 0 1 (by omega) (by omega) with ⟨j, -, hj, rfl⟩ | hp
  case inr => simp (decide := true) (disch := omega) only [b1_some, b2_some, litI, neg1, nI_add, nI_mul, e1_p1, nI_e0, ib, ib1, ite_not, if_true, if_false, not_true_eq_false, not_false_eq_true, setI_hv, qi, hp]; exact ⟨_, rfl, h, fun _ _ _ => rfl⟩
  have qp := eq_true (inR_of (Nat.zero_le j) hj (by omega))
  have hw := whr_le S i
  by_cases q : whr S i = 0
  · simp (decide := true) (disch := omega) only [b1_some, b2_some, litI, neg1, nI_add, nI_mul, e1_p1, nI_e0, ib, ib1, ite_not, if_true, if_false, not_true_eq_false, not_false_eq_true, setI_hv, qi, qp, m_where' g h, cl_I, q]
    exact ⟨_, rfl, h, fun _ _ _ => rfl⟩
  refine ⟨f, ?_, ?_, fun _ _ _ => rfl⟩
  · have hj' : j = 0 ∨ j = 1 := by omega
    rcases hj' with rfl | rfl
    · have lp := m_bd g h (c := whr S i - 1) (by omega) ((whr S i - 1) % 6) FU (Nat.le_refl _) (FU_gt (by omega))
      have e : (whr S i - 1) / 6 * 6 + (whr S i - 1) % 6 = whr S i - 1 := by omega
      rw [e] at lp
      have lp' : L_X10_beside_49 (hv σ f) M (nI 0) (nI (whr S i - 1)) FU (e1 0, e1 (whr S i - 1)) = _ := lp
      simp (decide := true) (disch := omega) only [b1_some, b2_some, litI, neg1, nI_add, nI_mul, e1_p1, nI_e0, ib, ib1, ite_not, if_true, if_false, not_true_eq_false, not_false_eq_true, setI_hv, qi, qp, m_where' g h, cl_I, q, e1_of, nI_e]
      rw [lp']
    · have lp := m_bu g h (c := whr S i - 1) (by omega) (5 - (whr S i - 1) % 6) FU (by omega) (FU_gt (by omega))
      have e : (whr S i - 1) / 6 * 6 + (6 - (5 - (whr S i - 1) % 6)) = whr S i - 1 + 1 := by omega
      rw [e] at lp
      have lp' : L_X10_beside_49 (hv σ f) M (nI 1) (nI (whr S i - 1)) FU (e1 0, nI (whr S i - 1 + 1)) = _ := lp
      simp (decide := true) (disch := omega) only [b1_some, b2_some, litI, neg1, nI_add, nI_mul, e1_p1, nI_e0, ib, ib1, ite_not, if_true, if_false, not_true_eq_false, not_false_eq_true, setI_hv, qi, qp, m_where' g h, cl_I, q, e1_of, eq_lit]
      rw [lp']
  · repeat' split
    all_goals exact h
theorem inE {k : Nat} (h : k ≤ 5) : inR (nI k) 0 5 = True := eq_true (inR_of (Nat.zero_le k) h (by omega))
theorem inE0 : inR (e1 0) 0 5 = False := eq_false (by
  rw [inR_iff (by omega) (by omega), e1_toInt (by omega)]
  omega)
theorem inE6 : inR (nI 6) 0 5 = False := eq_false (by
  rw [inR_iff (by omega) (by omega), tI (by omega)]
  omega)
theorem x_bd {N : Nat} {σ : Hp} {f : Nat → Nat → Int32} {S : St} (g : Good S) (h : RepX N (hv σ f) S) {c : Nat} (hc : c < 48) : ∀ k n, k ≤ 5 → k < n → it (fun rec st => B_X0_beside_57 N (nI c) (e1 0) rec st.1 st.2) n (hv σ f, e1 k) = some (e1 (nbd (S.2 9) (c / 6 * 6) k), hv σ f) := by
  have s : SX N σ := h.1
  intro k
  induction k with
  | zero =>
    intro n hk hn
    obtain ⟨n, rfl⟩ : ∃ m, n = m + 1 := ⟨n - 1, by omega⟩
    rw [it_s]
    generalize it (fun rec st => B_X0_beside_57 N (nI c) (e1 0) rec st.1 st.2) n = r
    simp only [B_X0_beside_57, x0_inR _ (e1 0) 0 5 0 5 (by decide) (by decide), inE0, if_false, b2_some]
    rfl
  | succ k ih =>
    intro n hk hn
    obtain ⟨n, rfl⟩ : ∃ m, n = m + 1 := ⟨n - 1, by omega⟩
    have ih' := ih n (by omega) (by omega)
    rw [it_s]
    have b := g.cn (c := c / 6 * 6 + k) (by omega)
    have th := s.h12.there (f := f) (c := c / 6 * 6 + k) (by omega) (by omega : S.2 9 (c / 6 * 6 + k) < 1000) (h.a9 (by omega))
    show B_X0_beside_57 N (nI c) (e1 0) (it _ n) (hv σ f) (e1 (k + 1)) = some (e1 (if S.2 9 (c / 6 * 6 + k) = 0 then nbd (S.2 9) (c / 6 * 6) k else S.2 9 (c / 6 * 6 + k)), hv σ f)
    rw [e1_s]
    revert ih'
    generalize it (fun rec st => B_X0_beside_57 N (nI c) (e1 0) rec st.1 st.2) n = r
    intro ih'
    simp only [B_X0_beside_57, x0_inR _ (nI k) 0 5 0 5 (by decide) (by decide), inE (show k ≤ 5 by omega), if_true, b2_some, if10]
    by_cases q : S.2 9 (c / 6 * 6 + k) = 0
    · simp (decide := true) (disch := omega) only [gd_hv s.t0, gI_hv s.t0, pI_hv s.t0, s.R7, s.R12_0, s.C12, s.h12.CD, s.h12.CI, s.h12.CW, s.h12.G, s.h12.GD, s.h12.GI, s.h12.GW, th, b1_some, b2_some, litI, neg1, nI_add, nI_mul, e1_p1, nI_e0, ib, ib1, ite_not, if_true, if_false, not_true_eq_false, not_false_eq_true, setI_hv, c6, q, ne_eq, nI_e, ih']
    · simp (decide := true) (disch := omega) only [gd_hv s.t0, gI_hv s.t0, pI_hv s.t0, s.R7, s.R12_0, s.C12, s.h12.CD, s.h12.CI, s.h12.CW, s.h12.G, s.h12.GD, s.h12.GI, s.h12.GW, th, b1_some, b2_some, litI, neg1, nI_add, nI_mul, e1_p1, nI_e0, ib, ib1, ite_not, if_true, if_false, not_true_eq_false, not_false_eq_true, setI_hv, c6, q, ne_eq, h.a9, eq_lit]
theorem x_bu {N : Nat} {σ : Hp} {f : Nat → Nat → Int32} {S : St} (g : Good S) (h : RepX N (hv σ f) S) {c : Nat} (hc : c < 48) : ∀ k n, k ≤ 5 → k < n → it (fun rec st => B_X0_beside_57 N (nI c) (nI 1) rec st.1 st.2) n (hv σ f, nI (6 - k)) = some (e1 (nbu (S.2 9) (c / 6 * 6) k), hv σ f) := by
  have s : SX N σ := h.1
  intro k
  induction k with
  | zero =>
    intro n hk hn
    obtain ⟨n, rfl⟩ : ∃ m, n = m + 1 := ⟨n - 1, by omega⟩
    rw [it_s]
    generalize it (fun rec st => B_X0_beside_57 N (nI c) (nI 1) rec st.1 st.2) n = r
    show B_X0_beside_57 N (nI c) (nI 1) r (hv σ f) (nI 6) = _
    simp only [B_X0_beside_57, x0_inR _ (nI 6) 0 5 0 5 (by decide) (by decide), inE6, if_false, b2_some]
    rfl
  | succ k ih =>
    intro n hk hn
    obtain ⟨n, rfl⟩ : ∃ m, n = m + 1 := ⟨n - 1, by omega⟩
    have ih' := ih n (by omega) (by omega)
    rw [it_s]
    have e6 : 6 - (k + 1) = 5 - k := by omega
    have e7 : 5 - k + 1 = 6 - k := by omega
    rw [e6]
    have b := g.cn (c := c / 6 * 6 + (5 - k)) (by omega)
    have th := s.h12.there (f := f) (c := c / 6 * 6 + (5 - k)) (by omega) (by omega : S.2 9 (c / 6 * 6 + (5 - k)) < 1000) (h.a9 (by omega))
    show B_X0_beside_57 N (nI c) (nI 1) (it _ n) (hv σ f) (nI (5 - k)) = some (e1 (if S.2 9 (c / 6 * 6 + (5 - k)) = 0 then nbu (S.2 9) (c / 6 * 6) k else S.2 9 (c / 6 * 6 + (5 - k))), hv σ f)
    revert ih'
    generalize it (fun rec st => B_X0_beside_57 N (nI c) (nI 1) rec st.1 st.2) n = r
    intro ih'
    simp only [B_X0_beside_57, x0_inR _ (nI (5 - k)) 0 5 0 5 (by decide) (by decide), inE (show 5 - k ≤ 5 by omega), if_true, b2_some, if10]
    by_cases q : S.2 9 (c / 6 * 6 + (5 - k)) = 0
    · simp (decide := true) (disch := omega) only [gd_hv s.t0, gI_hv s.t0, pI_hv s.t0, s.R7, s.R12_0, s.C12, s.h12.CD, s.h12.CI, s.h12.CW, s.h12.G, s.h12.GD, s.h12.GI, s.h12.GW, th, b1_some, b2_some, litI, neg1, nI_add, nI_mul, e1_p1, nI_e0, ib, ib1, ite_not, if_true, if_false, not_true_eq_false, not_false_eq_true, setI_hv, c6, q, ne_eq, e7, ih']
    · simp (decide := true) (disch := omega) only [gd_hv s.t0, gI_hv s.t0, pI_hv s.t0, s.R7, s.R12_0, s.C12, s.h12.CD, s.h12.CI, s.h12.CW, s.h12.G, s.h12.GD, s.h12.GI, s.h12.GW, th, b1_some, b2_some, litI, neg1, nI_add, nI_mul, e1_p1, nI_e0, ib, ib1, ite_not, if_true, if_false, not_true_eq_false, not_false_eq_true, setI_hv, c6, q, ne_eq, h.a9, eq_lit]
theorem x_beside (N : Nat) (t w : Int32) : OkXf N (fun σ => F_X0_beside σ N t w) (oBeside t w) := by
  intro σ f S g h
  have s : SX N σ := h.1
  simp only [F_X0_beside, oBeside, gd_hv s.t0, x0_isThing, x0_inR _ w 0 1 0 1 (by decide) (by decide), b2_some]
  rcases in_split t 0 23 (by omega) (by omega) with ⟨i, -, hi, rfl⟩ | hk
  case inr => simp (decide := true) (disch := omega) only [b1_some, b2_some, litI, neg1, nI_add, nI_mul, e1_p1, nI_e0, ib, ib1, ite_not, if_true, if_false, not_true_eq_false, not_false_eq_true, setI_hv, hk]; exact ⟨_, rfl, h, fun _ _ _ => rfl⟩
  have qi := eq_true (inR_of (Nat.zero_le i) hi (by omega))
  rcases in_split w 0 1 (by omega) (by omega) with ⟨j, -, hj, rfl⟩ | hp
  case inr => simp (decide := true) (disch := omega) only [b1_some, b2_some, litI, neg1, nI_add, nI_mul, e1_p1, nI_e0, ib, ib1, ite_not, if_true, if_false, not_true_eq_false, not_false_eq_true, setI_hv, qi, hp]; exact ⟨_, rfl, h, fun _ _ _ => rfl⟩
  have qp := eq_true (inR_of (Nat.zero_le j) hj (by omega))
  have hw := whr_le S i
  by_cases q : whr S i = 0
  · simp (decide := true) (disch := omega) only [b1_some, b2_some, litI, neg1, nI_add, nI_mul, e1_p1, nI_e0, ib, ib1, ite_not, if_true, if_false, not_true_eq_false, not_false_eq_true, setI_hv, qi, qp, x_where' g h, cl_I, q]
    exact ⟨_, rfl, h, fun _ _ _ => rfl⟩
  refine ⟨f, ?_, ?_, fun _ _ _ => rfl⟩
  · have hj' : j = 0 ∨ j = 1 := by omega
    rcases hj' with rfl | rfl
    · have lp := x_bd g h (c := whr S i - 1) (by omega) ((whr S i - 1) % 6) FU (by omega) (FU_gt (by omega))
      have lp' : L_X0_beside_57 N (nI (whr S i - 1)) (e1 0) FU (hv σ f, e1 ((whr S i - 1) % 6)) = _ := lp
      simp (decide := true) (disch := omega) only [b1_some, b2_some, litI, neg1, nI_add, nI_mul, e1_p1, nI_e0, ib, ib1, ite_not, if_true, if_false, not_true_eq_false, not_false_eq_true, setI_hv, qi, qp, x_where' g h, cl_I, q, e1_of, c6, r6', nI_e, eq_lit]
      rw [lp']
    · have lp := x_bu g h (c := whr S i - 1) (by omega) (5 - (whr S i - 1) % 6) FU (by omega) (FU_gt (by omega))
      have e : 6 - (5 - (whr S i - 1) % 6) = (whr S i - 1) % 6 + 1 := by omega
      rw [e] at lp
      have lp' : L_X0_beside_57 N (nI (whr S i - 1)) (nI 1) FU (hv σ f, nI ((whr S i - 1) % 6 + 1)) = _ := lp
      simp (decide := true) (disch := omega) only [b1_some, b2_some, litI, neg1, nI_add, nI_mul, e1_p1, nI_e0, ib, ib1, ite_not, if_true, if_false, not_true_eq_false, not_false_eq_true, setI_hv, qi, qp, x_where' g h, cl_I, q, e1_of, c6, r6', eq_lit]
      rw [lp']
  · repeat' split
    all_goals exact h
