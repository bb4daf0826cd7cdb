set_option maxRecDepth 100000
/-! pure law 17: right -/
theorem it_gcd {β : Type} (body : (Int32 × Int32 → Option β) → Int32 × Int32 → Option β) (ex : Nat → Option β) (h0 : ∀ rec x, x < 1000 → body rec (nI x, nI 0) = ex x) (h1 : ∀ rec x y, 0 < y → x < 1000 → y < 1000 → body rec (nI x, nI y) = rec (nI y, nI (x % y))) : ∀ n x y, x < 1000 → y < 1000 → y < n → it body n (nI x, nI y) = ex (Nat.gcd x y) := by
  intro n
  induction n with
  | zero => intro x y _ _ h; omega
  | succ n ih =>
    intro x y hx hy h
    rw [it_s]
    by_cases q : y = 0
    · subst q
      rw [h0 _ x hx, Nat.gcd_zero_right]
    · have m := Nat.mod_lt x (by omega : 0 < y)
      rw [h1 _ x y (by omega) hx hy, ih y (x % y) hy (by omega) (by omega), Nat.gcd_comm x y, Nat.gcd_rec y x, Nat.gcd_comm]
theorem dz_ok {ρ : Type} {n : Nat} {k : Option ρ} (h0 : 0 < n) (h : n < 2147483648) : dz (nI n) k = k := if_neg (by
  rw [litI 0, eq_lit h (by omega)]
  omega)
def rtf (S : St) (c k : Nat) : Nat := if k = c then 0 else if S.2 9 k = 0 then 0 else if S.1 6 ≤ lkn S (S.2 9 k - 1) (S.2 9 c - 1) then S.2 10 k else 0
def rta (S : St) (c : Nat) : Nat → Nat
  | 0 => S.2 10 c + S.2 12 c
  | i + 1 => rta S c i + rtf S c (6 * (c / 6) + i)
theorem rta_le {S : St} (g : Good S) {c : Nat} (hc : c < 48) : ∀ i, i ≤ 6 → rta S c i ≤ 200 + 100 * i
  | 0, _ => by
    have := g.cn hc
    show S.2 10 c + S.2 12 c ≤ _
    omega
  | i + 1, hi => by
    have ih := rta_le g hc i (by omega)
    have b := g.cn (c := 6 * (c / 6) + i) (by omega)
    have : rtf S c (6 * (c / 6) + i) ≤ 100 := by
      unfold rtf
      repeat' split
      all_goals omega
    show rta S c i + rtf S c (6 * (c / 6) + i) ≤ _
    omega
def rtr (S : St) (c : Nat) (p : Int32) : Int32 := if rta S c 6 = 0 then -4 else if p = nI 0 then nI (S.2 10 c / Nat.gcd (rta S c 6) (S.2 10 c)) else nI (rta S c 6 / Nat.gcd (rta S c 6) (S.2 10 c))
def oRight (c p : Int32) (S : St) : Int32 × St := if inR c 0 47 then (if inR p 0 1 then (if S.2 9 c.toNatClampNeg = 0 then (-4, S) else (rtr S c.toNatClampNeg p, S)) else (-3, S)) else (-2, S)
theorem m_right' {M : Nat} {σ : Hp} {f : Nat → Nat → Int32} {S : St} (g : Good S) (h : RepM M (hv σ f) S) {c : Nat} (hc : c < 48) (p : Int32) : F_X10_right_148 (hv σ f) M (nI c) p (nI (rta S c 6)) = some (rtr S c p, hv σ f) := by
  have s : SM M σ := h.1
  have ha := rta_le g hc 6 (by omega)
  have b := g.cn hc
  unfold rtr
  by_cases q : rta S c 6 = 0
  · simp (decide := true) (disch := omega) only [F_X10_right_148, b1_some, b2_some, litI, neg1, nI_add, nI_mul, e1_p1, nI_e0, ib, ib1, ite_not, if_true, if_false, not_true_eq_false, not_false_eq_true, setI_hv, q]
  have gp : 0 < Nat.gcd (rta S c 6) (S.2 10 c) := Nat.gcd_pos_of_pos_left _ (by omega)
  have gl : Nat.gcd (rta S c 6) (S.2 10 c) ≤ rta S c 6 := Nat.le_of_dvd (by omega) (Nat.gcd_dvd_left _ _)
  have lp : L_X10_right_166 (hv σ f) M (nI c) p (nI (rta S c 6)) FU (nI (rta S c 6), nI (S.2 10 c)) = F_X10_right_189 (hv σ f) M (nI c) p (nI (rta S c 6)) (nI (Nat.gcd (rta S c 6) (S.2 10 c))) := by
    unfold L_X10_right_166
    refine it_gcd (fun rec st => B_X10_right_166 (hv σ f) M (nI c) p (nI (rta S c 6)) rec st.1 st.2) (fun x => F_X10_right_189 (hv σ f) M (nI c) p (nI (rta S c 6)) (nI x)) (fun rec x hx => ?_) (fun rec x y h0 hx hy => ?_) FU _ _ (by omega) (by omega) (FU_gt (by omega))
    · simp (decide := true) (disch := omega) only [B_X10_right_166, b1_some, b2_some, litI, neg1, nI_add, nI_mul, e1_p1, nI_e0, ib, ib1, ite_not, if_true, if_false, not_true_eq_false, not_false_eq_true, setI_hv]
    · have e : nI x - nI x / nI y * nI y = nI (x % y) := pk_rem (by omega) h0 (by omega)
      have e2 : (nI y = nI 0) = False := by rw [eq_lit (by omega) (by omega)]; exact eq_false (by omega)
      simp only [B_X10_right_166, litI, e2, if_false, e, dz_ok h0 (by omega)]
  simp (decide := true) (disch := omega) only [F_X10_right_148, gd_hv s.1, gI_hv s.1, pI_hv s.1, s.R10, s.A10, s.W10, b1_some, b2_some, litI, neg1, nI_add, nI_mul, e1_p1, nI_e0, ib, ib1, ite_not, if_true, if_false, not_true_eq_false, not_false_eq_true, setI_hv, eq_lit, q, h.a10, lp]
  have d1 : nI (S.2 10 c) / nI (Nat.gcd (rta S c 6) (S.2 10 c)) = nI (S.2 10 c / Nat.gcd (rta S c 6) (S.2 10 c)) := pk_div (by omega) gp (by omega)
  have d2 : nI (rta S c 6) / nI (Nat.gcd (rta S c 6) (S.2 10 c)) = nI (rta S c 6 / Nat.gcd (rta S c 6) (S.2 10 c)) := pk_div (by omega) gp (by omega)
  by_cases w : p = nI 0
  · simp (decide := true) (disch := omega) only [F_X10_right_189, gd_hv s.1, gI_hv s.1, pI_hv s.1, s.R10, s.A10, s.W10, b1_some, b2_some, litI, neg1, nI_add, nI_mul, e1_p1, nI_e0, ib, ib1, ite_not, if_true, if_false, not_true_eq_false, not_false_eq_true, setI_hv, h.a10, w, dz_ok, d1]
  · simp (decide := true) (disch := omega) only [F_X10_right_189, gd_hv s.1, gI_hv s.1, pI_hv s.1, s.R10, s.A10, s.W10, b1_some, b2_some, litI, neg1, nI_add, nI_mul, e1_p1, nI_e0, ib, ib1, ite_not, if_true, if_false, not_true_eq_false, not_false_eq_true, setI_hv, w, dz_ok, d2]
theorem m_right (M : Nat) (c p : Int32) : OkMf M (fun σ => F_X10_right σ M c p) (oRight c p) := by
  intro σ f S g h
  have s : SM M σ := h.1
  simp only [F_X10_right, oRight, gd_hv s.1, x10_isCorner, x10_inR _ p 0 1 0 1 rfl rfl, b2_some]
  rcases in_split c 0 47 (by omega) (by omega) with ⟨i, -, hi, rfl⟩ | hk
  case inr => simp (decide := true) (disch := omega) only [b1_some, b2_some, litI, neg1, nI_add, nI_mul, e1_p1, nI_e0, ib, ib1, ite_not, if_true, if_false, not_true_eq_false, not_false_eq_true, setI_hv, hk]; exact ⟨_, rfl, h, fun _ _ _ => rfl⟩
  have qi := eq_true (inR_of (Nat.zero_le i) hi (by omega))
  by_cases hp : inR p 0 1
  case neg => simp (decide := true) (disch := omega) only [b1_some, b2_some, litI, neg1, nI_add, nI_mul, e1_p1, nI_e0, ib, ib1, ite_not, if_true, if_false, not_true_eq_false, not_false_eq_true, setI_hv, qi, hp]; exact ⟨_, rfl, h, fun _ _ _ => rfl⟩
  have qp := eq_true hp
  have b := g.cn (c := i) (by omega)
  by_cases q : S.2 9 i = 0
  · simp (decide := true) (disch := omega) only [gd_hv s.1, gI_hv s.1, pI_hv s.1, s.R9, s.A9, s.W9, b1_some, b2_some, litI, neg1, nI_add, nI_mul, e1_p1, nI_e0, ib, ib1, ite_not, if_true, if_false, not_true_eq_false, not_false_eq_true, setI_hv, qi, qp, h.a9, e1_inj, q, cl_I]
    exact ⟨_, rfl, h, fun _ _ _ => rfl⟩
  have tl := g.tl
  obtain ⟨m, hm⟩ := it_FU (body := fun rec st => B_X10_right_72 M (nI i) p rec st.1 st.2.1 st.2.2) (fun j => (hv σ f, nI (rta S i j), nI (6 * (i / 6) + j))) 0 6 (by omega) (by omega) (fun j _ hj rec => by
    have hb := g.cn (c := 6 * (i / 6) + j) (by omega)
    have hl := lkn_le S (S.2 9 (6 * (i / 6) + j) - 1) (S.2 9 i - 1)
    show B_X10_right_72 M (nI i) p rec (hv σ f) (nI (rta S i j)) (nI (6 * (i / 6) + j)) = rec (hv σ f, nI (rta S i j + if 6 * (i / 6) + j = i then 0 else if S.2 9 (6 * (i / 6) + j) = 0 then 0 else if S.1 6 ≤ lkn S (S.2 9 (6 * (i / 6) + j) - 1) (S.2 9 i - 1) then S.2 10 (6 * (i / 6) + j) else 0), nI (6 * (i / 6) + j + 1))
    by_cases q1 : 6 * (i / 6) + j = i
    · simp (decide := true) (disch := omega) only [B_X10_right_72, b1_some, b2_some, litI, neg1, nI_add, nI_mul, e1_p1, nI_e0, ib, ib1, ite_not, if_true, if_false, not_true_eq_false, not_false_eq_true, setI_hv, c6, le_lit, eq_lit, q1, show ¬ i / 6 * 6 + 6 ≤ i by omega]
    · by_cases q2 : S.2 9 (6 * (i / 6) + j) = 0
      · simp (decide := true) (disch := omega) only [B_X10_right_72, gd_hv s.1, gI_hv s.1, pI_hv s.1, s.R9, s.A9, s.W9, b1_some, b2_some, litI, neg1, nI_add, nI_mul, e1_p1, nI_e0, ib, ib1, ite_not, if_true, if_false, not_true_eq_false, not_false_eq_true, setI_hv, c6, le_lit, eq_lit, h.a9, e1_inj, show ¬ i / 6 * 6 + 6 ≤ 6 * (i / 6) + j by omega, q1, q2]
      · by_cases q3 : S.1 6 ≤ lkn S (S.2 9 (6 * (i / 6) + j) - 1) (S.2 9 i - 1)
        · simp (decide := true) (disch := omega) only [B_X10_right_72, gd_hv s.1, gI_hv s.1, pI_hv s.1, s.R9, s.A9, s.W9, s.R10, s.A10, s.W10, b1_some, b2_some, litI, neg1, nI_add, nI_mul, e1_p1, nI_e0, ib, ib1, ite_not, if_true, if_false, not_true_eq_false, not_false_eq_true, setI_hv, c6, le_lit, lt_lit, eq_lit, h.a9, h.a10, h.s6, e1_of, m_lk g h, show ¬ i / 6 * 6 + 6 ≤ 6 * (i / 6) + j by omega, q1, q2, q3, show ¬ lkn S (S.2 9 (6 * (i / 6) + j) - 1) (S.2 9 i - 1) < S.1 6 by omega]
        · simp (decide := true) (disch := omega) only [B_X10_right_72, gd_hv s.1, gI_hv s.1, pI_hv s.1, s.R9, s.A9, s.W9, s.R10, s.A10, s.W10, b1_some, b2_some, litI, neg1, nI_add, nI_mul, e1_p1, nI_e0, ib, ib1, ite_not, if_true, if_false, not_true_eq_false, not_false_eq_true, setI_hv, c6, le_lit, lt_lit, eq_lit, h.a9, h.a10, h.s6, e1_of, m_lk g h, show ¬ i / 6 * 6 + 6 ≤ 6 * (i / 6) + j by omega, q1, q2, q3, show lkn S (S.2 9 (6 * (i / 6) + j) - 1) (S.2 9 i - 1) < S.1 6 by omega])
  have lp : L_X10_right_72 M (nI i) p FU (hv σ f, nI (S.2 10 i + S.2 12 i), nI (6 * (i / 6))) = some (rtr S i p, hv σ f) := by
    refine hm.trans ?_
    show B_X10_right_72 M (nI i) p m (hv σ f) (nI (rta S i 6)) (nI (6 * (i / 6) + 6)) = _
    unfold B_X10_right_72
    rw [if_pos (by rw [litI 6, c6 (by omega), nI_mul, nI_add, le_lit (by omega) (by omega)]; omega)]
    exact m_right' g h (by omega) p
  rw [Nat.mul_comm] at lp
  by_cases q2 : S.2 11 i = 0
  · have w0 : S.2 12 i = 0 := by omega
    rw [w0] at lp
    simp (decide := true) (disch := omega) only [gd_hv s.1, gI_hv s.1, pI_hv s.1, s.R9, s.A9, s.W9, s.R10, s.A10, s.W10, s.R11, s.A11, s.W11, s.R12, s.A12, s.W12, b1_some, b2_some, litI, neg1, nI_add, nI_mul, e1_p1, nI_e0, ib, ib1, ite_not, if_true, if_false, not_true_eq_false, not_false_eq_true, setI_hv, qi, qp, h.a9, h.a10, h.a11, e1_inj, q, q2, cl_I, c6, lp]
    exact ⟨_, rfl, h, fun _ _ _ => rfl⟩
  · simp (decide := true) (disch := omega) only [gd_hv s.1, gI_hv s.1, pI_hv s.1, s.R9, s.A9, s.W9, s.R10, s.A10, s.W10, s.R11, s.A11, s.W11, s.R12, s.A12, s.W12, b1_some, b2_some, litI, neg1, nI_add, nI_mul, e1_p1, nI_e0, ib, ib1, ite_not, if_true, if_false, not_true_eq_false, not_false_eq_true, setI_hv, qi, qp, h.a9, h.a10, h.a11, h.a12, e1_inj, q, q2, cl_I, c6, lp]
    exact ⟨_, rfl, h, fun _ _ _ => rfl⟩
theorem x_right' {N : Nat} {σ : Hp} {f : Nat → Nat → Int32} {S : St} (g : Good S) (h : RepX N (hv σ f) S) {c : Nat} (hc : c < 48) (p : Int32) : F_X0_right_158 (hv σ f) p (N + 12 + (2 + 2 * c)) (nI (rta S c 6)) = some (rtr S c p, hv σ f) := by
  have s : SX N σ := h.1
  have ha := rta_le g hc 6 (by omega)
  have b := g.cn hc
  unfold rtr
  by_cases q : rta S c 6 = 0
  · simp (decide := true) (disch := omega) only [F_X0_right_158, b1_some, b2_some, litI, neg1, nI_add, nI_mul, e1_p1, nI_e0, ib, ib1, ite_not, if_true, if_false, not_true_eq_false, not_false_eq_true, setI_hv, q]
  rw [Nat.gcd_comm]
  have gp : 0 < Nat.gcd (S.2 10 c) (rta S c 6) := Nat.gcd_pos_of_pos_right _ (by omega)
  have gl : Nat.gcd (S.2 10 c) (rta S c 6) ≤ rta S c 6 := Nat.le_of_dvd (by omega) (Nat.gcd_dvd_right _ _)
  have lp : L_X0_right_176 (hv σ f) p (N + 12 + (2 + 2 * c)) (nI (rta S c 6)) FU (nI (S.2 10 c), nI (rta S c 6)) = F_X0_right_199 (hv σ f) p (N + 12 + (2 + 2 * c)) (nI (rta S c 6)) (nI (Nat.gcd (S.2 10 c) (rta S c 6))) := by
    unfold L_X0_right_176
    refine it_gcd (fun rec st => B_X0_right_176 (hv σ f) p (N + 12 + (2 + 2 * c)) (nI (rta S c 6)) rec st.1 st.2) (fun x => F_X0_right_199 (hv σ f) p (N + 12 + (2 + 2 * c)) (nI (rta S c 6)) (nI x)) (fun rec x hx => ?_) (fun rec x y h0 hx hy => ?_) FU _ _ (by omega) (by omega) (FU_gt (by omega))
    · simp (decide := true) (disch := omega) only [B_X0_right_176, b1_some, b2_some, litI, neg1, nI_add, nI_mul, e1_p1, nI_e0, ib, ib1, ite_not, if_true, if_false, not_true_eq_false, not_false_eq_true, setI_hv]
    · have e : nI x - nI x / nI y * nI y = nI (x % y) := pk_rem (by omega) h0 (by omega)
      have e2 : (nI y = nI 0) = False := by rw [eq_lit (by omega) (by omega)]; exact eq_false (by omega)
      simp only [B_X0_right_176, litI, e2, if_false, e, dz_ok h0 (by omega)]
  simp (decide := true) (disch := omega) only [F_X0_right_158, s.R7, s.R12_0, s.C12, s.h12.CD, s.h12.CI, s.h12.CW, s.h12.G, s.h12.GD, s.h12.GI, s.h12.GW, b1_some, b2_some, litI, neg1, nI_add, nI_mul, e1_p1, nI_e0, ib, ib1, ite_not, if_true, if_false, not_true_eq_false, not_false_eq_true, setI_hv, eq_lit, q, h.a10, lp]
  have d1 : nI (S.2 10 c) / nI (Nat.gcd (S.2 10 c) (rta S c 6)) = nI (S.2 10 c / Nat.gcd (S.2 10 c) (rta S c 6)) := pk_div (by omega) gp (by omega)
  have d2 : nI (rta S c 6) / nI (Nat.gcd (S.2 10 c) (rta S c 6)) = nI (rta S c 6 / Nat.gcd (S.2 10 c) (rta S c 6)) := pk_div (by omega) gp (by omega)
  by_cases w : p = nI 0
  · simp (decide := true) (disch := omega) only [F_X0_right_199, s.R7, s.R12_0, s.C12, s.h12.CD, s.h12.CI, s.h12.CW, s.h12.G, s.h12.GD, s.h12.GI, s.h12.GW, b1_some, b2_some, litI, neg1, nI_add, nI_mul, e1_p1, nI_e0, ib, ib1, ite_not, if_true, if_false, not_true_eq_false, not_false_eq_true, setI_hv, h.a10, w, dz_ok, d1]
  · simp (decide := true) (disch := omega) only [F_X0_right_199, s.R7, s.R12_0, s.C12, s.h12.CD, s.h12.CI, s.h12.CW, s.h12.G, s.h12.GD, s.h12.GI, s.h12.GW, b1_some, b2_some, litI, neg1, nI_add, nI_mul, e1_p1, nI_e0, ib, ib1, ite_not, if_true, if_false, not_true_eq_false, not_false_eq_true, setI_hv, w, dz_ok, d2]
theorem x_right (N : Nat) (c p : Int32) : OkXf N (fun σ => F_X0_right σ N c p) (oRight c p) := by
  intro σ f S g h
  have s : SX N σ := h.1
  simp only [F_X0_right, oRight, gd_hv s.t0, x0_isCorner, x0_inR _ p 0 1 0 1 (by decide) (by decide), b2_some]
  rcases in_split c 0 47 (by omega) (by omega) with ⟨i, -, hi, rfl⟩ | hk
  case inr => simp (decide := true) (disch := omega) only [b1_some, b2_some, litI, neg1, nI_add, nI_mul, e1_p1, nI_e0, ib, ib1, ite_not, if_true, if_false, not_true_eq_false, not_false_eq_true, setI_hv, hk]; exact ⟨_, rfl, h, fun _ _ _ => rfl⟩
  have qi := eq_true (inR_of (Nat.zero_le i) hi (by omega))
  by_cases hp : inR p 0 1
  case neg => simp (decide := true) (disch := omega) only [b1_some, b2_some, litI, neg1, nI_add, nI_mul, e1_p1, nI_e0, ib, ib1, ite_not, if_true, if_false, not_true_eq_false, not_false_eq_true, setI_hv, qi, hp]; exact ⟨_, rfl, h, fun _ _ _ => rfl⟩
  have qp := eq_true hp
  have b := g.cn (c := i) (by omega)
  have th := s.h12.there (f := f) (c := i) (by omega) (by omega : S.2 9 i < 1000) (h.a9 (by omega))
  have gh := s.h12.ghost (f := f) (c := i) (by omega) (by omega : S.2 11 i < 1000) (by omega : S.2 12 i < 1000) (h.a11 (by omega)) (h.a12 (by omega))
  by_cases q : S.2 9 i = 0
  · simp (decide := true) (disch := omega) only [gd_hv s.t0, gI_hv s.t0, pI_hv s.t0, s.R7, s.R12_0, s.C12, s.h12.CD, s.h12.CI, s.h12.CW, s.h12.G, s.h12.GD, s.h12.GI, s.h12.GW, th, b1_some, b2_some, litI, neg1, nI_add, nI_mul, e1_p1, nI_e0, ib, ib1, ite_not, if_true, if_false, not_true_eq_false, not_false_eq_true, setI_hv, qi, qp, q, cl_I, ne_eq]
    exact ⟨_, rfl, h, fun _ _ _ => rfl⟩
  have tl := g.tl
  have e9' : f (N + 12 + (2 + 2 * i)) 0 = nI (S.2 9 i - 1) := (h.a9 (by omega)).trans (e1_of (by omega))
  obtain ⟨m, hm⟩ := it_FU (body := fun rec st => B_X0_right_84 N (nI i) p (N + 12 + (2 + 2 * i)) (nI (i / 6)) rec st.1 st.2.1 st.2.2) (fun j => (hv σ f, nI (rta S i j), nI (6 * (i / 6) + j))) 0 6 (by omega) (by omega) (fun j _ hj rec => by
    have hb := g.cn (c := 6 * (i / 6) + j) (by omega)
    have th := s.h12.there (f := f) (c := 6 * (i / 6) + j) (by omega) (by omega : S.2 9 (6 * (i / 6) + j) < 1000) (h.a9 (by omega))
    show B_X0_right_84 N (nI i) p (N + 12 + (2 + 2 * i)) (nI (i / 6)) rec (hv σ f) (nI (rta S i j)) (nI (6 * (i / 6) + j)) = rec (hv σ f, nI (rta S i j + if 6 * (i / 6) + j = i then 0 else if S.2 9 (6 * (i / 6) + j) = 0 then 0 else if S.1 6 ≤ lkn S (S.2 9 (6 * (i / 6) + j) - 1) (S.2 9 i - 1) then S.2 10 (6 * (i / 6) + j) else 0), nI (6 * (i / 6) + j + 1))
    by_cases q1 : 6 * (i / 6) + j = i
    · simp (decide := true) (disch := omega) only [B_X0_right_84, gd_hv s.t0, gI_hv s.t0, pI_hv s.t0, s.R7, s.R12_0, s.C12, s.h12.CD, s.h12.CI, s.h12.CW, s.h12.G, s.h12.GD, s.h12.GI, s.h12.GW, b1_some, b2_some, litI, neg1, nI_add, nI_mul, e1_p1, nI_e0, ib, ib1, ite_not, if_true, if_false, not_true_eq_false, not_false_eq_true, setI_hv, le_lit, eq_lit, q1, show ¬ 6 * (i / 6 + 1) ≤ i by omega]
    · by_cases q2 : S.2 9 (6 * (i / 6) + j) = 0
      · simp (decide := true) (disch := omega) only [B_X0_right_84, gd_hv s.t0, gI_hv s.t0, pI_hv s.t0, s.R7, s.R12_0, s.C12, s.h12.CD, s.h12.CI, s.h12.CW, s.h12.G, s.h12.GD, s.h12.GI, s.h12.GW, th, b1_some, b2_some, litI, neg1, nI_add, nI_mul, e1_p1, nI_e0, ib, ib1, ite_not, if_true, if_false, not_true_eq_false, not_false_eq_true, setI_hv, le_lit, eq_lit, show ¬ 6 * (i / 6 + 1) ≤ 6 * (i / 6) + j by omega, q1, q2, ne_eq]
      · have tk := xl_isLike g s h.lk (a := S.2 9 (6 * (i / 6) + j) - 1) (b := S.2 9 i - 1) (by omega) (by omega)
        have e9 : f (N + 12 + (2 + 2 * (6 * (i / 6) + j))) 0 = nI (S.2 9 (6 * (i / 6) + j) - 1) := (h.a9 (by omega)).trans (e1_of (by omega))
        by_cases q3 : S.1 6 ≤ lkn S (S.2 9 (6 * (i / 6) + j) - 1) (S.2 9 i - 1)
        · simp (decide := true) (disch := omega) only [B_X0_right_84, gd_hv s.t0, gI_hv s.t0, pI_hv s.t0, s.R7, s.R12_0, s.C12, s.h12.CD, s.h12.CI, s.h12.CW, s.h12.G, s.h12.GD, s.h12.GI, s.h12.GW, th, b1_some, b2_some, litI, neg1, nI_add, nI_mul, e1_p1, nI_e0, ib, ib1, ite_not, if_true, if_false, not_true_eq_false, not_false_eq_true, setI_hv, le_lit, eq_lit, e9, e9', h.a10, tk, show ¬ 6 * (i / 6 + 1) ≤ 6 * (i / 6) + j by omega, q1, q2, q3, ne_eq]
        · simp (decide := true) (disch := omega) only [B_X0_right_84, gd_hv s.t0, gI_hv s.t0, pI_hv s.t0, s.R7, s.R12_0, s.C12, s.h12.CD, s.h12.CI, s.h12.CW, s.h12.G, s.h12.GD, s.h12.GI, s.h12.GW, th, b1_some, b2_some, litI, neg1, nI_add, nI_mul, e1_p1, nI_e0, ib, ib1, ite_not, if_true, if_false, not_true_eq_false, not_false_eq_true, setI_hv, le_lit, eq_lit, e9, e9', h.a10, tk, show ¬ 6 * (i / 6 + 1) ≤ 6 * (i / 6) + j by omega, q1, q2, q3, ne_eq])
  have lp : L_X0_right_84 N (nI i) p (N + 12 + (2 + 2 * i)) (nI (i / 6)) FU (hv σ f, nI (S.2 10 i + S.2 12 i), nI (6 * (i / 6))) = some (rtr S i p, hv σ f) := by
    refine hm.trans ?_
    show B_X0_right_84 N (nI i) p (N + 12 + (2 + 2 * i)) (nI (i / 6)) m (hv σ f) (nI (rta S i 6)) (nI (6 * (i / 6) + 6)) = _
    unfold B_X0_right_84
    rw [if_pos (by rw [litI 6, litI 1, nI_add, nI_mul, le_lit (by omega) (by omega)]; omega)]
    exact x_right' g h (by omega) p
  by_cases q2 : S.2 11 i = 0
  · have w0 : S.2 12 i = 0 := by omega
    rw [w0] at lp
    simp (decide := true) (disch := omega) only [gd_hv s.t0, gI_hv s.t0, pI_hv s.t0, s.R7, s.R12_0, s.C12, s.h12.CD, s.h12.CI, s.h12.CW, s.h12.G, s.h12.GD, s.h12.GI, s.h12.GW, th, gh, b1_some, b2_some, litI, neg1, nI_add, nI_mul, e1_p1, nI_e0, ib, ib1, ite_not, if_true, if_false, not_true_eq_false, not_false_eq_true, setI_hv, qi, qp, h.a10, q, q2, cl_I, c6, lp, ne_eq, false_and, eq_lit]
    exact ⟨_, rfl, h, fun _ _ _ => rfl⟩
  · have w0 : ¬ S.2 12 i = 0 := by omega
    simp (decide := true) (disch := omega) only [gd_hv s.t0, gI_hv s.t0, pI_hv s.t0, s.R7, s.R12_0, s.C12, s.h12.CD, s.h12.CI, s.h12.CW, s.h12.G, s.h12.GD, s.h12.GI, s.h12.GW, th, gh, b1_some, b2_some, litI, neg1, nI_add, nI_mul, e1_p1, nI_e0, ib, ib1, ite_not, if_true, if_false, not_true_eq_false, not_false_eq_true, setI_hv, qi, qp, h.a10, h.a12, q, q2, w0, cl_I, c6, lp, ne_eq, and_self, eq_lit]
    exact ⟨_, rfl, h, fun _ _ _ => rfl⟩
