set_option maxRecDepth 100000
/-! pure law 6: erase, set, fall, figures, answer, clear, corner -/
theorem cl_I {j : Nat} (h : j < 2147483648) : (nI j).toNatClampNeg = j := nI_clamp h
theorem w1_id (S : St) (k : Nat) : w1 S k (S.1 k) = S := by
  unfold w1
  have e : (fun j => if j = k then S.1 k else S.1 j) = S.1 := by
    funext j
    by_cases h : j = k
    · rw [if_pos h, h]
    · rw [if_neg h]
  rw [e]
def oErase (S : St) : Int32 × St := (nI (S.1 19), w1 S 19 0)
theorem m_erase (M : Nat) : OkMf M (fun σ => F_X10_erase σ M) oErase := by
  intro σ f S g h
  have s : SM M σ := h.1
  simp (decide := true) (disch := omega) only [F_X10_erase, gd_hv s.1, gI_hv s.1, pI_hv s.1, b1_some, b2_some, litI, neg1, nI_add, nI_mul, e1_p1, nI_e0, ib, ib1, ite_not, if_true, if_false, not_true_eq_false, not_false_eq_true, setI_hv, h.s19]
  exact ⟨_, rfl, h.setS 19 0, fun a k ha => u2_n (by omega)⟩
theorem x_erase (N : Nat) : OkXf N (fun σ => F_X0_erase σ N) oErase := by
  intro σ f S g h
  have s : SX N σ := h.1
  simp (decide := true) (disch := omega) only [F_X0_erase, gd_hv s.t0, gI_hv s.t0, pI_hv s.t0, b1_some, b2_some, litI, neg1, nI_add, nI_mul, e1_p1, nI_e0, ib, ib1, ite_not, if_true, if_false, not_true_eq_false, not_false_eq_true, setI_hv, h.s19]
  exact ⟨_, rfl, h.wSc (13, 19) (by decide) (by decide) 0, fun a k ha => u2_n (by omega)⟩
def oSet (w v : Int32) (S : St) : Int32 × St := if w = nI 0 ∧ inR v 1 8 then (nI (S.1 6), w1 S 6 v.toNatClampNeg) else if w = nI 1 ∧ inR v 0 100 then (nI (S.1 7), w1 S 7 v.toNatClampNeg) else (-3, S)
theorem m_set (M : Nat) (w v : Int32) : OkMf M (fun σ => F_X10_set σ M w v) (oSet w v) := by
  intro σ f S g h
  have s : SM M σ := h.1
  simp only [F_X10_set, F_X10_set_26, oSet, gd_hv s.1, x10_inR _ v 1 8 1 8 rfl rfl, x10_inR _ v 0 100 0 100 rfl rfl, b2_some]
  by_cases w0 : w = nI 0
  · subst w0
    rcases in_split v 1 8 (by omega) (by omega) with ⟨j, hj0, hj, rfl⟩ | hv
    · have q := eq_true (inR_of hj0 hj (by omega))
      simp (decide := true) (disch := omega) only [gd_hv s.1, gI_hv s.1, pI_hv s.1, b1_some, b2_some, litI, neg1, nI_add, nI_mul, e1_p1, nI_e0, ib, ib1, ite_not, if_true, if_false, not_true_eq_false, not_false_eq_true, setI_hv, q, h.s6, eq_lit, and_self, cl_I]
      exact ⟨_, rfl, h.setS 6 j, fun a k ha => u2_n (by omega)⟩
    · simp (decide := true) (disch := omega) only [gd_hv s.1, gI_hv s.1, pI_hv s.1, b1_some, b2_some, litI, neg1, nI_add, nI_mul, e1_p1, nI_e0, ib, ib1, ite_not, if_true, if_false, not_true_eq_false, not_false_eq_true, setI_hv, hv, eq_lit, and_false, false_and]
      exact ⟨_, rfl, h, fun _ _ _ => rfl⟩
  · by_cases w1' : w = nI 1
    · subst w1'
      rcases in_split v 0 100 (by omega) (by omega) with ⟨j, hj0, hj, rfl⟩ | hv
      · have q := eq_true (inR_of hj0 hj (by omega))
        simp (decide := true) (disch := omega) only [gd_hv s.1, gI_hv s.1, pI_hv s.1, b1_some, b2_some, litI, neg1, nI_add, nI_mul, e1_p1, nI_e0, ib, ib1, ite_not, if_true, if_false, not_true_eq_false, not_false_eq_true, setI_hv, q, h.s7, eq_lit, and_self, cl_I, false_and]
        exact ⟨_, rfl, h.setS 7 j, fun a k ha => u2_n (by omega)⟩
      · simp (decide := true) (disch := omega) only [gd_hv s.1, gI_hv s.1, pI_hv s.1, b1_some, b2_some, litI, neg1, nI_add, nI_mul, e1_p1, nI_e0, ib, ib1, ite_not, if_true, if_false, not_true_eq_false, not_false_eq_true, setI_hv, hv, eq_lit, and_false, false_and]
        exact ⟨_, rfl, h, fun _ _ _ => rfl⟩
    · simp (decide := true) (disch := omega) only [gd_hv s.1, gI_hv s.1, pI_hv s.1, b1_some, b2_some, litI, neg1, nI_add, nI_mul, e1_p1, nI_e0, ib, ib1, ite_not, if_true, if_false, not_true_eq_false, not_false_eq_true, setI_hv, w0, w1', false_and]
      exact ⟨_, rfl, h, fun _ _ _ => rfl⟩
theorem x_set (N : Nat) (w v : Int32) : OkXf N (fun σ => F_X0_set σ N w v) (oSet w v) := by
  intro σ f S g h
  have s : SX N σ := h.1
  simp only [F_X0_set, F_X0_set_29, F_X0_set_53, F_X0_set_67, oSet, gd_hv s.t0, x0_inR _ w 0 1 0 1 (by decide) (by decide), b2_some]
  rcases in_split w 0 1 (by omega) (by omega) with ⟨i, hi0, hi, rfl⟩ | hw
  case inr =>
    have n0 : ¬ w = nI 0 := fun q => hw (q ▸ inR_of (by omega) (by omega) (by omega))
    have n1 : ¬ w = nI 1 := fun q => hw (q ▸ inR_of (by omega) (by omega) (by omega))
    simp (decide := true) (disch := omega) only [b1_some, b2_some, litI, neg1, nI_add, nI_mul, e1_p1, nI_e0, ib, ib1, ite_not, if_true, if_false, not_true_eq_false, not_false_eq_true, setI_hv, hw, n0, n1, false_and]
    exact ⟨_, rfl, h, fun _ _ _ => rfl⟩
  have qi := eq_true (inR_of hi0 hi (by omega))
  have hi' : i = 0 ∨ i = 1 := by omega
  rcases hi' with rfl | rfl
  · have e : ∀ τ, F_X0_isIn τ v.toInt64 ((1 - nI 0 : Int32).toInt64) 8 = some (if inR v 1 8 then 1 else 0, τ) := fun τ => x0_inR τ v _ _ 1 8 (by decide) (by decide)
    simp only [qi, if_true, e, show ((nI 0 : Int32) = 0) = True from eq_true rfl, if10, b2_some]
    rcases in_split v 1 8 (by omega) (by omega) with ⟨j, hj0, hj, rfl⟩ | hv
    · have q := eq_true (inR_of hj0 hj (by omega))
      simp (decide := true) (disch := omega) only [gd_hv s.t0, gI_hv s.t0, pI_hv s.t0, b1_some, b2_some, litI, neg1, nI_add, nI_mul, e1_p1, nI_e0, ib, ib1, ite_not, if_true, if_false, not_true_eq_false, not_false_eq_true, setI_hv, q, h.s6, eq_lit, and_self, cl_I, u2_n]
      refine ⟨_, rfl, ?_, fun a k ha => ?_⟩
      · rw [h.s7]
        have r := (h.wSc (3, 6) (by decide) (by decide) j).wSc (4, 7) (by decide) (by decide) (S.1 7)
        have e2 : w1 (w1 S 6 j) 7 (S.1 7) = w1 S 6 j := w1_id (w1 S 6 j) 7
        rw [e2] at r
        exact r
      · rw [u2_n (by omega), u2_n (by omega)]
    · simp (decide := true) (disch := omega) only [b1_some, b2_some, litI, neg1, nI_add, nI_mul, e1_p1, nI_e0, ib, ib1, ite_not, if_true, if_false, not_true_eq_false, not_false_eq_true, setI_hv, hv, eq_lit, and_false, false_and]
      exact ⟨_, rfl, h, fun _ _ _ => rfl⟩
  · have e : ∀ τ, F_X0_isIn τ v.toInt64 ((1 - nI 1 : Int32).toInt64) 100 = some (if inR v 0 100 then 1 else 0, τ) := fun τ => x0_inR τ v _ _ 0 100 (by decide) (by decide)
    simp only [qi, if_true, e, show ((nI 1 : Int32) = 0) = False from eq_false (by decide), if_false, if10, b2_some]
    rcases in_split v 0 100 (by omega) (by omega) with ⟨j, hj0, hj, rfl⟩ | hv
    · have q := eq_true (inR_of hj0 hj (by omega))
      simp (decide := true) (disch := omega) only [gd_hv s.t0, gI_hv s.t0, pI_hv s.t0, b1_some, b2_some, litI, neg1, nI_add, nI_mul, e1_p1, nI_e0, ib, ib1, ite_not, if_true, if_false, not_true_eq_false, not_false_eq_true, setI_hv, q, h.s7, eq_lit, and_self, cl_I, false_and]
      refine ⟨_, rfl, ?_, fun a k ha => ?_⟩
      · rw [h.s6]
        have r := (h.wSc (3, 6) (by decide) (by decide) (S.1 6)).wSc (4, 7) (by decide) (by decide) j
        rw [w1_id] at r
        exact r
      · rw [u2_n (by omega), u2_n (by omega)]
    · simp (decide := true) (disch := omega) only [b1_some, b2_some, litI, neg1, nI_add, nI_mul, e1_p1, nI_e0, ib, ib1, ite_not, if_true, if_false, not_true_eq_false, not_false_eq_true, setI_hv, hv, eq_lit, and_false, false_and]
      exact ⟨_, rfl, h, fun _ _ _ => rfl⟩
def oFall (k v : Int32) (S : St) : Int32 × St := if inR k 0 10 ∧ inR v 0 30 then (nI (S.2 8 k.toNatClampNeg), w2 S 8 k.toNatClampNeg v.toNatClampNeg) else (-3, S)
theorem m_fall (M : Nat) (k v : Int32) : OkMf M (fun σ => F_X10_fall σ M k v) (oFall k v) := by
  intro σ f S g h
  have s : SM M σ := h.1
  simp only [F_X10_fall, oFall, gd_hv s.1, x10_inR _ k 0 10 0 10 rfl rfl, x10_inR _ v 0 30 0 30 rfl rfl, b2_some]
  rcases in_split k 0 10 (by omega) (by omega) with ⟨i, -, hi, rfl⟩ | hk
  case inr => simp (decide := true) (disch := omega) only [b1_some, b2_some, litI, neg1, nI_add, nI_mul, e1_p1, nI_e0, ib, ib1, ite_not, if_true, if_false, not_true_eq_false, not_false_eq_true, setI_hv, hk, false_and]; exact ⟨_, rfl, h, fun _ _ _ => rfl⟩
  have qi := eq_true (inR_of (Nat.zero_le i) hi (by omega))
  rcases in_split v 0 30 (by omega) (by omega) with ⟨j, -, hj, rfl⟩ | hv
  case inr => simp (decide := true) (disch := omega) only [b1_some, b2_some, litI, neg1, nI_add, nI_mul, e1_p1, nI_e0, ib, ib1, ite_not, if_true, if_false, not_true_eq_false, not_false_eq_true, setI_hv, qi, hv, and_false]; exact ⟨_, rfl, h, fun _ _ _ => rfl⟩
  have qj := eq_true (inR_of (Nat.zero_le j) hj (by omega))
  simp (decide := true) (disch := omega) only [gd_hv s.1, gI_hv s.1, pI_hv s.1, s.R8, s.A8, s.W8, b1_some, b2_some, litI, neg1, nI_add, nI_mul, e1_p1, nI_e0, ib, ib1, ite_not, if_true, if_false, not_true_eq_false, not_false_eq_true, setI_hv, qi, qj, and_self, h.a8, cl_I]
  exact ⟨_, rfl, h.set (8, 5, 11) (by decide) i j, fun a k ha => u2_n (by omega)⟩
theorem x_fall (N : Nat) (k v : Int32) : OkXf N (fun σ => F_X0_fall σ N k v) (oFall k v) := by
  intro σ f S g h
  have s : SX N σ := h.1
  simp only [F_X0_fall, oFall, gd_hv s.t0, x0_inR _ k 0 10 0 10 (by decide) (by decide), x0_inR _ v 0 30 0 30 (by decide) (by decide), b2_some]
  rcases in_split k 0 10 (by omega) (by omega) with ⟨i, -, hi, rfl⟩ | hk
  case inr => simp (decide := true) (disch := omega) only [b1_some, b2_some, litI, neg1, nI_add, nI_mul, e1_p1, nI_e0, ib, ib1, ite_not, if_true, if_false, not_true_eq_false, not_false_eq_true, setI_hv, hk, false_and]; exact ⟨_, rfl, h, fun _ _ _ => rfl⟩
  have qi := eq_true (inR_of (Nat.zero_le i) hi (by omega))
  rcases in_split v 0 30 (by omega) (by omega) with ⟨j, -, hj, rfl⟩ | hv
  case inr => simp (decide := true) (disch := omega) only [b1_some, b2_some, litI, neg1, nI_add, nI_mul, e1_p1, nI_e0, ib, ib1, ite_not, if_true, if_false, not_true_eq_false, not_false_eq_true, setI_hv, qi, hv, and_false]; exact ⟨_, rfl, h, fun _ _ _ => rfl⟩
  have qj := eq_true (inR_of (Nat.zero_le j) hj (by omega))
  simp (decide := true) (disch := omega) only [gd_hv s.t0, gI_hv s.t0, pI_hv s.t0, s.R5, s.A11, s.W11, b1_some, b2_some, litI, neg1, nI_add, nI_mul, e1_p1, nI_e0, ib, ib1, ite_not, if_true, if_false, not_true_eq_false, not_false_eq_true, setI_hv, qi, qj, and_self, h.a8, cl_I]
  exact ⟨_, rfl, h.wAr (11, 8, 11) (by decide) i j, fun a k ha => u2_n (by omega)⟩
/-! a write into the table of figures -/
theorem RepX.wAl {N : Nat} {σ : Hp} {f : Nat → Nat → Int32} {S : St} (h : RepX N (hv σ f) S) {a b : Nat} (ha : a < 10) (hb : b < 10) (v : Nat) : RepX N (hv σ (u2 (u2 f (N + (214 + a)) b (nI v)) (N + (214 + b)) a (nI v))) (w2 (w2 S 38 (10 * a + b) v) 38 (10 * b + a) v) := by
  obtain ⟨h1, h2, hA, hB, hC, hD, hE, hF, hG, hH⟩ := h
  have hx3 : ∀ x ∈ xAr, x.1 < 214 ∧ x.2.1 ≠ 38 := by decide
  refine ⟨h1, h2, (hA.ne (by omega)).ne (by omega), ((hB.ne (fun x hx => by have := hx3 x hx; omega)).ne (fun x hx => by have := hx3 x hx; omega)).cg (fun x hx i => by rw [w2_ne (hx3 x hx).2, w2_ne (hx3 x hx).2]), ?_, ((hD.ne (by omega)).ne (by omega)).cg (fun k _ _ i => by rw [w2_ne (by omega), w2_ne (by omega)]), ?_, ((hF.ne (by omega)).ne (by omega)).cg (fun k _ _ i => by rw [w2_ne (by omega), w2_ne (by omega)]), ?_, ?_⟩
  · rw [jn_w2 (by decide), jn_w2 (by decide)]; exact (hC.ne (by omega)).ne (by omega)
  · rw [w2_nf (by decide), w2_nf (by decide)]; exact (hE.ne (by omega)).ne (by omega)
  · intro x y hx hy
    have g := hG x y hx hy
    show u2 (u2 f (N + (214 + a)) b (nI v)) (N + (214 + b)) a (nI v) (N + (214 + x)) y = nI ((w2 (w2 S 38 (10 * a + b) v) 38 (10 * b + a) v).2 38 (10 * x + y))
    rw [w2_2, w2_2]
    by_cases q : x = b ∧ y = a
    · rw [u2_eq (by omega) q.2, if_pos ⟨rfl, by omega⟩]
    · rw [u2_n (by omega), if_neg (by omega)]
      by_cases q2 : x = a ∧ y = b
      · rw [u2_eq (by omega) q2.2, if_pos ⟨rfl, by omega⟩]
      · rw [u2_n (by omega), if_neg (by omega)]
        exact g
  · rw [w2_1, w2_1, w2_nf (by decide), w2_nf (by decide)]; exact (hH.ne (by omega)).ne (by omega)
def oFigures (a b v : Int32) (S : St) : Int32 × St := if inR a 0 9 ∧ inR b 0 9 ∧ ¬ a = b then (if inR v 0 9 then (nI (S.2 38 (10 * a.toNatClampNeg + b.toNatClampNeg)), w2 (w2 S 38 (10 * a.toNatClampNeg + b.toNatClampNeg) v.toNatClampNeg) 38 (10 * b.toNatClampNeg + a.toNatClampNeg) v.toNatClampNeg) else (-3, S)) else (-2, S)
theorem m_figures (M : Nat) (a b v : Int32) : OkMf M (fun σ => F_X10_figures σ M a b v) (oFigures a b v) := by
  intro σ f S g h
  have s : SM M σ := h.1
  simp only [F_X10_figures, oFigures, gd_hv s.1, x10_inR _ a 0 9 0 9 rfl rfl, x10_inR _ b 0 9 0 9 rfl rfl, x10_inR _ v 0 9 0 9 rfl rfl, b2_some]
  rcases in_split a 0 9 (by omega) (by omega) with ⟨i, -, hi, rfl⟩ | hk
  case inr => simp (decide := true) (disch := omega) only [b1_some, b2_some, litI, neg1, nI_add, nI_mul, e1_p1, nI_e0, ib, ib1, ite_not, if_true, if_false, not_true_eq_false, not_false_eq_true, setI_hv, hk, false_and]; exact ⟨_, rfl, h, fun _ _ _ => rfl⟩
  have qi := eq_true (inR_of (Nat.zero_le i) hi (by omega))
  rcases in_split b 0 9 (by omega) (by omega) with ⟨j, -, hj, rfl⟩ | hv
  case inr => simp (decide := true) (disch := omega) only [b1_some, b2_some, litI, neg1, nI_add, nI_mul, e1_p1, nI_e0, ib, ib1, ite_not, if_true, if_false, not_true_eq_false, not_false_eq_true, setI_hv, qi, hv, and_false, false_and]; exact ⟨_, rfl, h, fun _ _ _ => rfl⟩
  have qj := eq_true (inR_of (Nat.zero_le j) hj (by omega))
  by_cases hij : i = j
  · subst hij
    simp (decide := true) (disch := omega) only [b1_some, b2_some, litI, neg1, nI_add, nI_mul, e1_p1, nI_e0, ib, ib1, ite_not, if_true, if_false, not_true_eq_false, not_false_eq_true, setI_hv, qi, and_false]
    exact ⟨_, rfl, h, fun _ _ _ => rfl⟩
  rcases in_split v 0 9 (by omega) (by omega) with ⟨k, -, hk, rfl⟩ | hv
  case inr => simp (decide := true) (disch := omega) only [b1_some, b2_some, litI, neg1, nI_add, nI_mul, e1_p1, nI_e0, ib, ib1, ite_not, if_true, if_false, not_true_eq_false, not_false_eq_true, setI_hv, qi, qj, hv, hij, eq_lit, and_self]; exact ⟨_, rfl, h, fun _ _ _ => rfl⟩
  have qk := eq_true (inR_of (Nat.zero_le k) hk (by omega))
  simp (decide := true) (disch := omega) only [gd_hv s.1, gI_hv s.1, pI_hv s.1, s.R38, s.A38, s.W38, b1_some, b2_some, litI, neg1, nI_add, nI_mul, e1_p1, nI_e0, ib, ib1, ite_not, if_true, if_false, not_true_eq_false, not_false_eq_true, setI_hv, qi, qj, qk, hij, eq_lit, and_self, h.a38, cl_I]
  exact ⟨_, rfl, (h.set (38, 25, 100) (by decide) (10 * i + j) k).set (38, 25, 100) (by decide) (10 * j + i) k, fun a k ha => by rw [u2_n (by omega), u2_n (by omega)]⟩
theorem x_figures (N : Nat) (a b v : Int32) : OkXf N (fun σ => F_X0_figures σ N a b v) (oFigures a b v) := by
  intro σ f S g h
  have s : SX N σ := h.1
  simp only [F_X0_figures, oFigures, gd_hv s.t0, x0_inR _ a 0 9 0 9 (by decide) (by decide), x0_inR _ b 0 9 0 9 (by decide) (by decide), x0_inR _ v 0 9 0 9 (by decide) (by decide), b2_some]
  rcases in_split a 0 9 (by omega) (by omega) with ⟨i, -, hi, rfl⟩ | hk
  case inr => simp (decide := true) (disch := omega) only [b1_some, b2_some, litI, neg1, nI_add, nI_mul, e1_p1, nI_e0, ib, ib1, ite_not, if_true, if_false, not_true_eq_false, not_false_eq_true, setI_hv, hk, false_and]; exact ⟨_, rfl, h, fun _ _ _ => rfl⟩
  have qi := eq_true (inR_of (Nat.zero_le i) hi (by omega))
  rcases in_split b 0 9 (by omega) (by omega) with ⟨j, -, hj, rfl⟩ | hv
  case inr => simp (decide := true) (disch := omega) only [b1_some, b2_some, litI, neg1, nI_add, nI_mul, e1_p1, nI_e0, ib, ib1, ite_not, if_true, if_false, not_true_eq_false, not_false_eq_true, setI_hv, qi, hv, and_false, false_and]; exact ⟨_, rfl, h, fun _ _ _ => rfl⟩
  have qj := eq_true (inR_of (Nat.zero_le j) hj (by omega))
  by_cases hij : i = j
  · subst hij
    simp (decide := true) (disch := omega) only [b1_some, b2_some, litI, neg1, nI_add, nI_mul, e1_p1, nI_e0, ib, ib1, ite_not, if_true, if_false, not_true_eq_false, not_false_eq_true, setI_hv, qi, and_false]
    exact ⟨_, rfl, h, fun _ _ _ => rfl⟩
  rcases in_split v 0 9 (by omega) (by omega) with ⟨k, -, hk, rfl⟩ | hv
  case inr => simp (decide := true) (disch := omega) only [b1_some, b2_some, litI, neg1, nI_add, nI_mul, e1_p1, nI_e0, ib, ib1, ite_not, if_true, if_false, not_true_eq_false, not_false_eq_true, setI_hv, qi, qj, hv, hij, eq_lit, and_self]; exact ⟨_, rfl, h, fun _ _ _ => rfl⟩
  have qk := eq_true (inR_of (Nat.zero_le k) hk (by omega))
  simp (decide := true) (disch := omega) only [gd_hv s.t0, gI_hv s.t0, pI_hv s.t0, s.R16, s.K, s.AK, s.WK, b1_some, b2_some, litI, neg1, nI_add, nI_mul, e1_p1, nI_e0, ib, ib1, ite_not, if_true, if_false, not_true_eq_false, not_false_eq_true, setI_hv, qi, qj, qk, hij, eq_lit, and_self, h.a38, cl_I]
  exact ⟨_, rfl, h.wAl (by omega) (by omega) k, fun a k ha => by rw [u2_n (by omega), u2_n (by omega)]⟩
/-! a pupil's answer -/
theorem RepX.wPu {N : Nat} {σ : Hp} {f : Nat → Nat → Int32} {S : St} (h : RepX N (hv σ f) S) {p n : Nat} (hp : p < 4) (hn : n < 12) (d r m : Nat) : RepX N (hv σ (u2 (u2 (u2 f (N + (234 + 3 * p)) n (nI d)) (N + (235 + 3 * p)) n (nI r)) (N + (233 + 3 * p)) 2 (nI m))) (w2 (w2 (w2 S 36 (12 * p + n) d) 37 (12 * p + n) r) 35 p m) := by
  obtain ⟨h1, h2, hA, hB, hC, hD, hE, hF, hG, hH⟩ := h
  have hx3 : ∀ x ∈ xAr, x.1 < 214 ∧ x.2.1 < 35 := by decide
  refine ⟨h1, h2, ((hA.ne (by omega)).ne (by omega)).ne (by omega), (((hB.ne (fun x hx => by have := hx3 x hx; omega)).ne (fun x hx => by have := hx3 x hx; omega)).ne (fun x hx => by have := hx3 x hx; omega)).cg (fun x hx i => by have := (hx3 x hx).2; rw [w2_ne (by omega), w2_ne (by omega), w2_ne (by omega)]), ?_, (((hD.ne (by omega)).ne (by omega)).ne (by omega)).cg (fun k _ _ i => by rw [w2_ne (by omega), w2_ne (by omega), w2_ne (by omega)]), ?_, ?_, ?_, ?_⟩
  · rw [jn_w2 (by decide), jn_w2 (by decide), jn_w2 (by decide)]; exact ((hC.ne (by omega)).ne (by omega)).ne (by omega)
  · rw [w2_nf (by decide), w2_nf (by decide), w2_nf (by decide)]; exact ((hE.ne (by omega)).ne (by omega)).ne (by omega)
  · intro x hx
    have g := hF x hx
    refine ⟨?_, fun k hk => ⟨?_, ?_⟩⟩
    · show u2 (u2 (u2 f (N + (234 + 3 * p)) n (nI d)) (N + (235 + 3 * p)) n (nI r)) (N + (233 + 3 * p)) 2 (nI m) (N + (233 + 3 * x)) 2 = nI ((w2 (w2 (w2 S 36 (12 * p + n) d) 37 (12 * p + n) r) 35 p m).2 35 x)
      rw [w2_2]
      by_cases q : x = p
      · rw [u2_eq (by omega) rfl, if_pos ⟨rfl, q⟩]
      · rw [u2_n (by omega), u2_n (by omega), u2_n (by omega), if_neg (by omega), w2_ne (by decide), w2_ne (by decide)]
        exact g.1
    · show u2 (u2 (u2 f (N + (234 + 3 * p)) n (nI d)) (N + (235 + 3 * p)) n (nI r)) (N + (233 + 3 * p)) 2 (nI m) (N + (234 + 3 * x)) k = nI ((w2 (w2 (w2 S 36 (12 * p + n) d) 37 (12 * p + n) r) 35 p m).2 36 (12 * x + k))
      rw [u2_n (by omega), u2_n (by omega), w2_ne (by decide), w2_ne (by decide), w2_2]
      by_cases q : x = p ∧ k = n
      · rw [u2_eq (by omega) q.2, if_pos ⟨rfl, by omega⟩]
      · rw [u2_n (by omega), if_neg (by omega)]
        exact (g.2 k hk).1
    · show u2 (u2 (u2 f (N + (234 + 3 * p)) n (nI d)) (N + (235 + 3 * p)) n (nI r)) (N + (233 + 3 * p)) 2 (nI m) (N + (235 + 3 * x)) k = nI ((w2 (w2 (w2 S 36 (12 * p + n) d) 37 (12 * p + n) r) 35 p m).2 37 (12 * x + k))
      rw [u2_n (by omega), w2_ne (by decide), w2_2]
      by_cases q : x = p ∧ k = n
      · rw [u2_eq (by omega) q.2, if_pos ⟨rfl, by omega⟩]
      · rw [u2_n (by omega), u2_n (by omega), if_neg (by omega), w2_ne (by decide)]
        exact (g.2 k hk).2
  · rw [w2_nf (by decide), w2_nf (by decide), w2_nf (by decide)]; exact ((hG.ne (by omega)).ne (by omega)).ne (by omega)
  · rw [w2_1, w2_1, w2_1, w2_nf (by decide), w2_nf (by decide), w2_nf (by decide)]; exact ((hH.ne (by omega)).ne (by omega)).ne (by omega)
theorem nar01 : ∀ r, r ≤ 1 → vp_nar .boolean (nI r) = nI r := by
  intro r hr
  have : r = 0 ∨ r = 1 := by omega
  rcases this with rfl | rfl
  · rfl
  · rfl
def oAnswer (p d : Int32) (r : Nat) (S : St) : Int32 × St := if inR p 0 3 then (if inR d 1 60 then (if S.2 35 p.toNatClampNeg = 12 then (-5, S) else (nI (S.2 35 p.toNatClampNeg + 1), w2 (w2 (w2 S 36 (12 * p.toNatClampNeg + S.2 35 p.toNatClampNeg) d.toNatClampNeg) 37 (12 * p.toNatClampNeg + S.2 35 p.toNatClampNeg) r) 35 p.toNatClampNeg (S.2 35 p.toNatClampNeg + 1))) else (-3, S)) else (-2, S)
theorem m_answer (M : Nat) (p d : Int32) (r : Nat) (hr : r ≤ 1) : OkMf M (fun σ => F_X10_answer σ M p d (nI r)) (oAnswer p d r) := by
  intro σ f S g h
  have s : SM M σ := h.1
  simp only [F_X10_answer, oAnswer, gd_hv s.1, x10_isPupil, x10_inR _ d 1 60 1 60 rfl rfl, b2_some]
  rcases in_split p 0 3 (by omega) (by omega) with ⟨i, -, hi, rfl⟩ | hk
  case inr => simp (decide := true) (disch := omega) only [b1_some, b2_some, litI, neg1, nI_add, nI_mul, e1_p1, nI_e0, ib, ib1, ite_not, if_true, if_false, not_true_eq_false, not_false_eq_true, setI_hv, hk]; exact ⟨_, rfl, h, fun _ _ _ => rfl⟩
  have qi := eq_true (inR_of (Nat.zero_le i) hi (by omega))
  rcases in_split d 1 60 (by omega) (by omega) with ⟨j, hj0, hj, rfl⟩ | hv
  case inr => simp (decide := true) (disch := omega) only [b1_some, b2_some, litI, neg1, nI_add, nI_mul, e1_p1, nI_e0, ib, ib1, ite_not, if_true, if_false, not_true_eq_false, not_false_eq_true, setI_hv, qi, hv]; exact ⟨_, rfl, h, fun _ _ _ => rfl⟩
  have qj := eq_true (inR_of hj0 hj (by omega))
  have hb : S.2 35 i ≤ 12 := g.2.2.2.2.2.2.2.2.2.2.2.2.2.2.1 i (by omega)
  by_cases q : S.2 35 i = 12
  · simp (decide := true) (disch := omega) only [gd_hv s.1, gI_hv s.1, pI_hv s.1, s.R35, s.A35, s.W35, b1_some, b2_some, litI, neg1, nI_add, nI_mul, e1_p1, nI_e0, ib, ib1, ite_not, if_true, if_false, not_true_eq_false, not_false_eq_true, setI_hv, qi, qj, h.a35, cl_I, eq_lit, q]
    exact ⟨_, rfl, h, fun _ _ _ => rfl⟩
  · simp (decide := true) (disch := omega) only [gd_hv s.1, gI_hv s.1, pI_hv s.1, s.R35, s.A35, s.W35, s.R36, s.A36, s.W36, s.R37, s.A37, s.W37, b1_some, b2_some, litI, neg1, nI_add, nI_mul, e1_p1, nI_e0, ib, ib1, ite_not, if_true, if_false, not_true_eq_false, not_false_eq_true, setI_hv, qi, qj, h.a35, cl_I, eq_lit, q, u2_n, u2_e, nar01 r hr]
    exact ⟨_, rfl, ((h.set (36, 23, 48) (by decide) (12 * i + S.2 35 i) j).set (37, 24, 48) (by decide) (12 * i + S.2 35 i) r).set (35, 22, 4) (by decide) i (S.2 35 i + 1), fun a k ha => by rw [u2_n (by omega), u2_n (by omega), u2_n (by omega)]⟩
theorem x_answer (N : Nat) (p d : Int32) (r : Nat) (hr : r ≤ 1) : OkXf N (fun σ => F_X0_answer σ N p d (nI r)) (oAnswer p d r) := by
  intro σ f S g h
  have s : SX N σ := h.1
  simp only [F_X0_answer, oAnswer, gd_hv s.t0, x0_isPupil, x0_inR _ d 1 60 1 60 (by decide) (by decide), b2_some]
  rcases in_split p 0 3 (by omega) (by omega) with ⟨i, -, hi, rfl⟩ | hk
  case inr => simp (decide := true) (disch := omega) only [b1_some, b2_some, litI, neg1, nI_add, nI_mul, e1_p1, nI_e0, ib, ib1, ite_not, if_true, if_false, not_true_eq_false, not_false_eq_true, setI_hv, hk]; exact ⟨_, rfl, h, fun _ _ _ => rfl⟩
  have qi := eq_true (inR_of (Nat.zero_le i) hi (by omega))
  rcases in_split d 1 60 (by omega) (by omega) with ⟨j, hj0, hj, rfl⟩ | hv
  case inr => simp (decide := true) (disch := omega) only [b1_some, b2_some, litI, neg1, nI_add, nI_mul, e1_p1, nI_e0, ib, ib1, ite_not, if_true, if_false, not_true_eq_false, not_false_eq_true, setI_hv, qi, hv]; exact ⟨_, rfl, h, fun _ _ _ => rfl⟩
  have qj := eq_true (inR_of hj0 hj (by omega))
  have hb : S.2 35 i ≤ 12 := g.2.2.2.2.2.2.2.2.2.2.2.2.2.2.1 i (by omega)
  by_cases q : S.2 35 i = 12
  · simp (decide := true) (disch := omega) only [gd_hv s.t0, gI_hv s.t0, pI_hv s.t0, s.R21, s.P, s.PI, b1_some, b2_some, litI, neg1, nI_add, nI_mul, e1_p1, nI_e0, ib, ib1, ite_not, if_true, if_false, not_true_eq_false, not_false_eq_true, setI_hv, qi, qj, h.a35, cl_I, eq_lit, q]
    exact ⟨_, rfl, h, fun _ _ _ => rfl⟩
  · simp (decide := true) (disch := omega) only [gd_hv s.t0, gI_hv s.t0, pI_hv s.t0, s.R21, s.P, s.PI, s.PW, s.PD, s.PR, s.WPD, s.WPR, b1_some, b2_some, litI, neg1, nI_add, nI_mul, e1_p1, nI_e0, ib, ib1, ite_not, if_true, if_false, not_true_eq_false, not_false_eq_true, setI_hv, qi, qj, h.a35, cl_I, eq_lit, q, u2_n, u2_e, nar01 r hr]
    exact ⟨_, rfl, h.wPu (by omega) (by omega) j r _, fun a k ha => by rw [u2_n (by omega), u2_n (by omega), u2_n (by omega)]⟩
