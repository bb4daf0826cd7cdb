set_option maxRecDepth 100000
/-! pure law 7: corners: clear, corner, where, put -/
theorem w2_n {S : St} {k i v q j : Nat} (h : ¬ (q = k ∧ j = i)) : (w2 S k i v).2 q j = S.2 q j := if_neg h
theorem RepX.hs {N : Nat} {σ : Hp} {f f' : Nat → Nat → Int32} {S S' : St} (h : RepX N (hv σ f) S) (hf : ∀ a k, (∀ o, 14 ≤ o → o < 110 → a ≠ N + o) → f' a k = f a k) (h1 : S'.1 = S.1) (h2 : ∀ k, k < 9 ∨ 13 < k → S'.2 k = S.2 k)
    (hd : ∀ c, c < 48 → f' (N + 12 + (2 + 2 * c)) 0 = e1 (S'.2 9 c) ∧ f' (N + 12 + (2 + 2 * c)) 1 = nI (S'.2 10 c) ∧ f' (N + 12 + (2 + 2 * c)) 3 = e1 (S'.2 13 c) ∧ f' (N + 12 + (3 + 2 * c)) 0 = e1 (S'.2 11 c) ∧ f' (N + 12 + (3 + 2 * c)) 1 = nI (S'.2 12 c)) : RepX N (hv σ f') S' := by
  obtain ⟨g1, g2, hA, hB, hC, hD, hE, hF, hG, L, l1, l2, l3, l4⟩ := h
  have hx3 : ∀ x ∈ xAr, (x.1 < 14 ∨ 110 ≤ x.1) ∧ (x.2.1 < 9 ∨ 13 < x.2.1) := by decide
  have ho : ∀ o k, o < 14 ∨ 110 ≤ o → f' (N + o) k = f (N + o) k := fun o k q => hf _ _ (fun o' _ _ e => by omega)
  refine ⟨g1, g2, fun x hx => ?_, fun x hx i hi => ?_, fun a b ha hb => ?_, fun c hc => ?_, fun i hi => ?_, fun p hp => ?_, fun a b ha hb => ?_, L, l1, l2, l3, fun i hi => ?_⟩
  · rw [h1]
    exact (ho 0 _ (by omega)).trans (hA x hx)
  · rw [h2 _ (hx3 x hx).2]
    exact (ho _ _ (hx3 x hx).1).trans (hB x hx i hi)
  · have e : jn S' a b = jn S a b := by
      unfold jn
      rw [h1, h2 2 (by omega), h2 3 (by omega)]
    rw [e]
    have e2 : hI (hv σ f') (N + (2 + a)) b = hI (hv σ f) (N + (2 + a)) b := ho _ _ (by omega)
    rw [e2]
    exact hC a b ha hb
  · have e1 : N + (14 + 2 * c) = N + 12 + (2 + 2 * c) := by omega
    have e2 : N + (15 + 2 * c) = N + 12 + (3 + 2 * c) := by omega
    rw [e1, e2]
    exact hd c hc
  · rw [h2 20 (by omega)]
    exact (ho _ _ (by omega)).trans (hE i hi)
  · rw [h2 35 (by omega), h2 36 (by omega), h2 37 (by omega)]
    exact ⟨(ho _ _ (by omega)).trans (hF p hp).1, fun k hk => ⟨(ho _ _ (by omega)).trans ((hF p hp).2 k hk).1, (ho _ _ (by omega)).trans ((hF p hp).2 k hk).2⟩⟩
  · rw [h2 38 (by omega)]
    exact (ho _ _ (by omega)).trans (hG a b ha hb)
  · rw [h1] at hi
    obtain ⟨a, q1, q2, q3, q4⟩ := l4 i hi
    refine ⟨a, q1, q2, q3, ?_⟩
    rw [h2 30 (by omega)]
    unfold LnAt
    have ea : ∀ k, hI (hv σ f') a k = hI (hv σ f) a k := fun k => hf _ _ (fun o' _ _ e => by omega)
    rw [ea, ea]
    exact q4
/-! is it there -/
section TH
variable {N H : Nat} {σ : Hp} {f : Nat → Nat → Int32} {c : Nat}
theorem HS.there (hs : HS N H σ) (hc : c < 48) {t : Nat} (ht : t < 1000) (e : f (H + (2 + 2 * c)) 0 = e1 t) : F_X2_isThere_3 (hv σ f) (H + (2 + 2 * c)) = some (if t ≠ 0 then nI 1 else nI 0, hv σ f) := by
  by_cases q : t = 0
  · simp (decide := true) (disch := omega) only [F_X2_isThere_3, hs.D, hs.R0, hs.R1, hs.N, hs.C, hs.CD, hs.CI, hs.CW, hs.G, hs.GD, hs.GI, hs.GW, b1_some, b2_some, litI, neg1, nI_add, nI_mul, e1_p1, nI_e0, ib, ib1, ite_not, if_true, if_false, not_true_eq_false, not_false_eq_true, setI_hv, e, e1_inj, q, ne_eq]
  · simp (decide := true) (disch := omega) only [F_X2_isThere_3, hs.D, hs.R0, hs.R1, hs.N, hs.C, hs.CD, hs.CI, hs.CW, hs.G, hs.GD, hs.GI, hs.GW, b1_some, b2_some, litI, neg1, nI_add, nI_mul, e1_p1, nI_e0, ib, ib1, ite_not, if_true, if_false, not_true_eq_false, not_false_eq_true, setI_hv, e, e1_inj, q, ne_eq]
theorem HS.ghost (hs : HS N H σ) (hc : c < 48) {t w : Nat} (ht : t < 1000) (hw : w < 1000) (e : f (H + (3 + 2 * c)) 0 = e1 t) (e' : f (H + (3 + 2 * c)) 1 = nI w) : F_X4_isThere (hv σ f) (H + (3 + 2 * c)) = some (if t ≠ 0 ∧ w ≠ 0 then nI 1 else nI 0, hv σ f) := by
  by_cases q : t = 0
  · simp (decide := true) (disch := omega) only [F_X4_isThere, F_X2_isThere_4, hs.D, hs.R0, hs.R1, hs.N, hs.C, hs.CD, hs.CI, hs.CW, hs.G, hs.GD, hs.GI, hs.GW, b1_some, b2_some, litI, neg1, nI_add, nI_mul, e1_p1, nI_e0, ib, ib1, ite_not, if_true, if_false, not_true_eq_false, not_false_eq_true, setI_hv, e, e1_inj, q, ne_eq, false_and]
  · by_cases q2 : w = 0
    · simp (decide := true) (disch := omega) only [F_X4_isThere, F_X2_isThere_4, hs.D, hs.R0, hs.R1, hs.N, hs.C, hs.CD, hs.CI, hs.CW, hs.G, hs.GD, hs.GI, hs.GW, b1_some, b2_some, litI, neg1, nI_add, nI_mul, e1_p1, nI_e0, ib, ib1, ite_not, if_true, if_false, not_true_eq_false, not_false_eq_true, setI_hv, e, e', e1_inj, eq_lit, le_lit, q, q2, ne_eq, and_false, Nat.le_refl]
    · simp (decide := true) (disch := omega) only [F_X4_isThere, F_X2_isThere_4, hs.D, hs.R0, hs.R1, hs.N, hs.C, hs.CD, hs.CI, hs.CW, hs.G, hs.GD, hs.GI, hs.GW, b1_some, b2_some, litI, neg1, nI_add, nI_mul, e1_p1, nI_e0, ib, ib1, ite_not, if_true, if_false, not_true_eq_false, not_false_eq_true, setI_hv, e, e', e1_inj, eq_lit, le_lit, q, q2, ne_eq, and_self, show ¬ w ≤ 0 by omega]
end TH
theorem Good.cn {S : St} (g : Good S) {c : Nat} (hc : c < 48) : S.2 9 c ≤ 24 ∧ S.2 10 c ≤ 100 ∧ S.2 11 c ≤ 24 ∧ S.2 12 c ≤ 100 ∧ S.2 13 c ≤ S.1 0 + 1 ∧ (S.2 9 c = 0 → S.2 10 c = 0 ∧ S.2 11 c = 0) ∧ (S.2 11 c = 0 ↔ S.2 12 c = 0) := g.2.2.2.2.2.2.2.2.2.1 c hc
theorem Good.dy {S : St} (g : Good S) : S.1 0 ≤ 400 := g.1
theorem Good.un {S : St} (g : Good S) {c d : Nat} (hc : c < 48) (hd : d < 48) (e : S.2 9 c = S.2 9 d) (h0 : S.2 9 c ≠ 0) : c = d := g.2.2.2.2.2.2.2.2.2.2.1 c d hc hd e h0
def oClear (c : Int32) (S : St) : Int32 × St := if inR c 0 47 then (if S.2 9 c.toNatClampNeg = 0 then (-4, S) else (e1 (S.2 9 c.toNatClampNeg), w2 (w2 (w2 (w2 S 9 c.toNatClampNeg 0) 11 c.toNatClampNeg 0) 10 c.toNatClampNeg 0) 12 c.toNatClampNeg 0)) else (-2, S)
theorem m_clear (M : Nat) (c : Int32) : OkMf M (fun σ => F_X10_clear σ M c) (oClear c) := by
  intro σ f S g h
  have s : SM M σ := h.1
  simp only [F_X10_clear, oClear, gd_hv s.1, x10_isCorner, b2_some]
  rcases in_split c 0 47 (by omega) (by omega) with ⟨i, -, hi, rfl⟩ | hk
  case inr => simp (decide := true) (disch := omega) only [b1_some, b2_some, litI, neg1, nI_add, nI_mul, e1_p1, nI_e0, ib, ib1, ite_not, if_true, if_false, not_true_eq_false, not_false_eq_true, setI_hv, hk]; exact ⟨_, rfl, h, fun _ _ _ => rfl⟩
  have qi := eq_true (inR_of (Nat.zero_le i) hi (by omega))
  have hb := g.cn (c := i) (by omega)
  by_cases q : S.2 9 i = 0
  · simp (decide := true) (disch := omega) only [gd_hv s.1, gI_hv s.1, pI_hv s.1, s.R9, s.A9, s.W9, b1_some, b2_some, litI, neg1, nI_add, nI_mul, e1_p1, nI_e0, ib, ib1, ite_not, if_true, if_false, not_true_eq_false, not_false_eq_true, setI_hv, qi, h.a9, cl_I, e1_inj, q]
    exact ⟨_, rfl, h, fun _ _ _ => rfl⟩
  · simp (decide := true) (disch := omega) only [gd_hv s.1, gI_hv s.1, pI_hv s.1, s.R9, s.A9, s.W9, s.R10, s.A10, s.W10, s.R11, s.A11, s.W11, s.R12, s.A12, s.W12, b1_some, b2_some, litI, neg1, nI_add, nI_mul, e1_p1, nI_e0, ib, ib1, ite_not, if_true, if_false, not_true_eq_false, not_false_eq_true, setI_hv, qi, h.a9, cl_I, e1_inj, q]
    exact ⟨_, rfl, (((h.set (9, 6, 48) (by decide) i 0).set (11, 8, 48) (by decide) i 0).set (10, 7, 48) (by decide) i 0).set (12, 9, 48) (by decide) i 0, fun a k ha => by rw [u2_n (by omega), u2_n (by omega), u2_n (by omega), u2_n (by omega)]⟩
theorem x_clear (N : Nat) (c : Int32) : OkXf N (fun σ => F_X0_clear σ N c) (oClear c) := by
  intro σ f S g h
  have s : SX N σ := h.1
  simp only [F_X0_clear, oClear, gd_hv s.t0, x0_isCorner, b2_some]
  rcases in_split c 0 47 (by omega) (by omega) with ⟨i, -, hi, rfl⟩ | hk
  case inr => simp (decide := true) (disch := omega) only [b1_some, b2_some, litI, neg1, nI_add, nI_mul, e1_p1, nI_e0, ib, ib1, ite_not, if_true, if_false, not_true_eq_false, not_false_eq_true, setI_hv, hk]; exact ⟨_, rfl, h, fun _ _ _ => rfl⟩
  have qi := eq_true (inR_of (Nat.zero_le i) hi (by omega))
  have hb := g.cn (c := i) (by omega)
  have th := s.h12.there (f := f) (c := i) (by omega) (by omega : S.2 9 i < 1000) (h.a9 (by omega))
  by_cases q : S.2 9 i = 0
  · simp (decide := true) (disch := omega) only [gd_hv s.t0, gI_hv s.t0, pI_hv s.t0, s.R7, s.R12_0, s.C12, s.h12.CD, s.h12.CI, s.h12.CW, s.h12.G, s.h12.GD, s.h12.GI, s.h12.GW, th, b1_some, b2_some, litI, neg1, nI_add, nI_mul, e1_p1, nI_e0, ib, ib1, ite_not, if_true, if_false, not_true_eq_false, not_false_eq_true, setI_hv, qi, h.a9, cl_I, e1_inj, q, ne_eq, not_true_eq_false]
    exact ⟨_, rfl, h, fun _ _ _ => rfl⟩
  · simp (decide := true) (disch := omega) only [gd_hv s.t0, gI_hv s.t0, pI_hv s.t0, s.R7, s.R12_0, s.C12, s.h12.CD, s.h12.CI, s.h12.CW, s.h12.G, s.h12.GD, s.h12.GI, s.h12.GW, th, F_X2_lay_3, F_X2_lay_4, b1_some, b2_some, litI, neg1, nI_add, nI_mul, e1_p1, nI_e0, ib, ib1, ite_not, if_true, if_false, not_true_eq_false, not_false_eq_true, setI_hv, qi, h.a9, cl_I, e1_inj, q, ne_eq]
    refine ⟨_, rfl, h.hs (fun a k ha => ?_) rfl (fun k hk => ?_) (fun d hd => ?_), fun a k ha => by rw [u2_n (by omega), u2_n (by omega), u2_n (by omega), u2_n (by omega)]⟩
    · have e1 := ha (14 + 2 * i) (by omega) (by omega)
      have e2 := ha (15 + 2 * i) (by omega) (by omega)
      rw [u2_n (by omega), u2_n (by omega), u2_n (by omega), u2_n (by omega)]
    · rw [w2_nf (by omega), w2_nf (by omega), w2_nf (by omega), w2_nf (by omega)]
    · by_cases e : d = i
      · subst e
        simp (decide := true) (disch := omega) only [u2_n, u2_e, w2_n, w2_eq, h.a13]
      · simp (decide := true) (disch := omega) only [u2_n, w2_n]
        exact ⟨h.a9 hd, h.a10 hd, h.a13 hd, h.a11 hd, h.a12 hd⟩
def oCorner (c w : Int32) (S : St) : Int32 × St := if inR c 0 47 then (if w = nI 0 then (e1 (S.2 9 c.toNatClampNeg), S) else if w = nI 1 then (if S.2 9 c.toNatClampNeg = 0 then -1 else nI (S.2 10 c.toNatClampNeg), S) else if w = nI 2 then (e1 (S.2 11 c.toNatClampNeg), S) else if w = nI 3 then (if S.2 11 c.toNatClampNeg = 0 then -1 else nI (S.2 12 c.toNatClampNeg), S) else if w = nI 4 then (e1 (S.2 13 c.toNatClampNeg), S) else (-3, S)) else (-2, S)
theorem m_corner (M : Nat) (c w : Int32) : OkMf M (fun σ => F_X10_corner σ M c w) (oCorner c w) := by
  intro σ f S g h
  have s : SM M σ := h.1
  simp only [F_X10_corner, oCorner, gd_hv s.1, x10_isCorner, b2_some]
  rcases in_split c 0 47 (by omega) (by omega) with ⟨i, -, hi, rfl⟩ | hk
  case inr => simp (decide := true) (disch := omega) only [b1_some, b2_some, litI, neg1, nI_add, nI_mul, e1_p1, nI_e0, ib, ib1, ite_not, if_true, if_false, not_true_eq_false, not_false_eq_true, setI_hv, hk]; exact ⟨_, rfl, h, fun _ _ _ => rfl⟩
  have qi := eq_true (inR_of (Nat.zero_le i) hi (by omega))
  have hb := g.cn (c := i) (by omega)
  simp (decide := true) (disch := omega) only [gd_hv s.1, gI_hv s.1, pI_hv s.1, s.R9, s.A9, s.W9, s.R10, s.A10, s.W10, s.R11, s.A11, s.W11, s.R12, s.A12, s.W12, s.R13, s.A13, s.W13, b1_some, b2_some, litI, neg1, nI_add, nI_mul, e1_p1, nI_e0, ib, ib1, ite_not, if_true, if_false, not_true_eq_false, not_false_eq_true, setI_hv, qi, h.a9, h.a10, h.a11, h.a12, h.a13, cl_I, e1_inj]
  refine ⟨f, ?_, ?_, fun _ _ _ => rfl⟩
  · repeat' split
    all_goals rfl
  · repeat' split
    all_goals exact h
theorem x_corner (N : Nat) (c w : Int32) : OkXf N (fun σ => F_X0_corner σ N c w) (oCorner c w) := by
  intro σ f S g h
  have s : SX N σ := h.1
  simp only [F_X0_corner, oCorner, gd_hv s.t0, x0_isCorner, b2_some]
  rcases in_split c 0 47 (by omega) (by omega) with ⟨i, -, hi, rfl⟩ | hk
  case inr => simp (decide := true) (disch := omega) only [b1_some, b2_some, litI, neg1, nI_add, nI_mul, e1_p1, nI_e0, ib, ib1, ite_not, if_true, if_false, not_true_eq_false, not_false_eq_true, setI_hv, hk]; exact ⟨_, rfl, h, fun _ _ _ => rfl⟩
  have qi := eq_true (inR_of (Nat.zero_le i) hi (by omega))
  have hb := g.cn (c := i) (by omega)
  have th := s.h12.there (f := f) (c := i) (by omega) (by omega : S.2 9 i < 1000) (h.a9 (by omega))
  have gh := s.h12.ghost (f := f) (c := i) (by omega) (by omega : S.2 11 i < 1000) (by omega : S.2 12 i < 1000) (h.a11 (by omega)) (h.a12 (by omega))
  by_cases q1 : S.2 11 i = 0 <;> by_cases q2 : S.2 9 i = 0
  all_goals
    have q3 : (S.2 12 i = 0) = (S.2 11 i = 0) := propext (by omega)
    simp (decide := true) (disch := omega) only [gd_hv s.t0, gI_hv s.t0, pI_hv s.t0, s.R7, s.R12_0, s.C12, s.h12.CD, s.h12.CI, s.h12.CW, s.h12.G, s.h12.GD, s.h12.GI, s.h12.GW, th, gh, q1, q2, q3, b1_some, b2_some, litI, neg1, nI_add, nI_mul, e1_p1, nI_e0, ib, ib1, ite_not, if_true, if_false, not_true_eq_false, not_false_eq_true, setI_hv, qi, h.a9, h.a10, h.a11, h.a12, h.a13, cl_I, e1_inj, eq_lit, ne_eq, and_self, and_false, false_and]
    refine ⟨f, ?_, ?_, fun _ _ _ => rfl⟩
    · repeat' split
      all_goals rfl
    · repeat' split
      all_goals exact h
/-! where a thing is: 0 nowhere, c + 1 in the corner c -/
def wl (S : St) (t : Nat) : Nat → Nat
  | 0 => 0
  | n + 1 => if S.2 9 n = t + 1 then n + 1 else wl S t n
def whr (S : St) (t : Nat) : Nat := wl S t 48
theorem wl_le (S : St) (t : Nat) : ∀ n, wl S t n ≤ n
  | 0 => Nat.le_refl _
  | n + 1 => by
    have := wl_le S t n
    unfold wl
    split <;> omega
theorem wl_none {S : St} {t : Nat} : ∀ n, (∀ c, c < n → S.2 9 c ≠ t + 1) → wl S t n = 0
  | 0, _ => rfl
  | n + 1, h => by
    unfold wl
    rw [if_neg (h n (by omega))]
    exact wl_none n (fun c hc => h c (by omega))
theorem wl_at {S : St} (g : Good S) {t c : Nat} (hc : c < 48) (e : S.2 9 c = t + 1) : ∀ n, c < n → n ≤ 48 → wl S t n = c + 1
  | 0, h, _ => by omega
  | n + 1, h, h' => by
    unfold wl
    by_cases q : S.2 9 n = t + 1
    · rw [if_pos q, g.un (by omega) hc (q.trans e.symm) (by omega)]
    · rw [if_neg q]
      refine wl_at g hc e n ?_ (by omega)
      by_cases q2 : c = n
      · subst q2
        exact absurd e q
      · omega
theorem whr_le (S : St) (t : Nat) : whr S t ≤ 48 := wl_le S t 48
theorem m_where' {M : Nat} {σ : Hp} {f : Nat → Nat → Int32} {S : St} (g : Good S) (h : RepM M (hv σ f) S) {t : Nat} (ht : t < 24) : F_X10_cornerOf (hv σ f) M (nI t) = some (e1 (whr S t), hv σ f) := by
  have s : SM M σ := h.1
  unfold F_X10_cornerOf L_X10_cornerOf_4
  rw [gd_hv s.1]
  obtain ⟨n, hn⟩ := it_FU (body := fun rec st => B_X10_cornerOf_4 (hv σ f) M (nI t) rec st.1 st.2) (fun i => (e1 (wl S t i), nI i)) 0 48 (by decide) (by decide) (fun i _ hi rec => by
    have hb := g.cn hi
    simp (decide := true) (disch := omega) only [B_X10_cornerOf_4, gd_hv s.1, gI_hv s.1, pI_hv s.1, s.R9, s.A9, s.W9, b1_some, b2_some, litI, neg1, nI_add, nI_mul, e1_p1, nI_e0, ib, ib1, ite_not, if_true, if_false, not_true_eq_false, not_false_eq_true, setI_hv, h.a9, le_lit, e1_nI, show ¬ 48 ≤ i by omega]
    show _ = rec (e1 (if S.2 9 i = t + 1 then i + 1 else wl S t i), nI (i + 1))
    by_cases q : S.2 9 i = t + 1
    · rw [if_pos q, if_pos q, e1_s]
    · rw [if_neg q, if_neg q])
  refine Eq.trans (b := it (fun rec st => B_X10_cornerOf_4 (hv σ f) M (nI t) rec st.1 st.2) FU (e1 (wl S t 0), nI 0)) rfl (hn.trans ?_)
  simp (decide := true) (disch := omega) only [B_X10_cornerOf_4, b1_some, b2_some, litI, neg1, nI_add, nI_mul, e1_p1, nI_e0, ib, ib1, ite_not, if_true, if_false, not_true_eq_false, not_false_eq_true, setI_hv, le_lit, Nat.le_refl]
  rfl
theorem x_where' {N : Nat} {σ : Hp} {f : Nat → Nat → Int32} {S : St} (g : Good S) (h : RepX N (hv σ f) S) {t : Nat} (ht : t < 24) : F_X0_whereIs (hv σ f) N (nI t) = some (e1 (whr S t), hv σ f) := by
  have s : SX N σ := h.1
  unfold F_X0_whereIs L_X0_whereIs_2
  rw [gd_hv s.t0]
  have step : ∀ i, i < 48 → S.2 9 i ≠ t + 1 → ∀ rec, B_X0_whereIs_2 (hv σ f) N (nI t) rec (nI i) = rec (nI (i + 1)) := fun i hi q rec => by
    have hb := g.cn hi
    simp (decide := true) (disch := omega) only [B_X0_whereIs_2, gd_hv s.t0, gI_hv s.t0, pI_hv s.t0, s.R7, s.R12_0, s.C12, s.h12.CD, s.h12.CI, s.h12.CW, s.h12.G, s.h12.GD, s.h12.GI, s.h12.GW, b1_some, b2_some, litI, neg1, nI_add, nI_mul, e1_p1, nI_e0, ib, ib1, ite_not, if_true, if_false, not_true_eq_false, not_false_eq_true, setI_hv, h.a9, le_lit, e1_nI, show ¬ 48 ≤ i by omega, q]
  by_cases q : ∃ c, c < 48 ∧ S.2 9 c = t + 1
  · obtain ⟨c, hc, e⟩ := q
    obtain ⟨n, hn⟩ := it_FU (body := fun rec st => B_X0_whereIs_2 (hv σ f) N (nI t) rec st) (fun i => nI i) 0 c (by omega) (by omega) (fun i _ hi rec => step i (by omega) (fun q => by have := g.un (by omega) hc (q.trans e.symm) (by omega); omega) rec)
    refine Eq.trans (b := it (fun rec st => B_X0_whereIs_2 (hv σ f) N (nI t) rec st) FU (nI 0)) rfl (hn.trans ?_)
    have hb := g.cn hc
    have ew : whr S t = c + 1 := wl_at g hc e 48 hc (by omega)
    simp (decide := true) (disch := omega) only [B_X0_whereIs_2, gd_hv s.t0, gI_hv s.t0, pI_hv s.t0, s.R7, s.R12_0, s.C12, s.h12.CD, s.h12.CI, s.h12.CW, s.h12.G, s.h12.GD, s.h12.GI, s.h12.GW, b1_some, b2_some, litI, neg1, nI_add, nI_mul, e1_p1, nI_e0, ib, ib1, ite_not, if_true, if_false, not_true_eq_false, not_false_eq_true, setI_hv, h.a9, le_lit, e1_nI, show ¬ 48 ≤ c by omega, e, ew, e1_s]
  · obtain ⟨n, hn⟩ := it_FU (body := fun rec st => B_X0_whereIs_2 (hv σ f) N (nI t) rec st) (fun i => nI i) 0 48 (by omega) (by omega) (fun i _ hi rec => step i hi (fun e => q ⟨i, hi, e⟩) rec)
    refine Eq.trans (b := it (fun rec st => B_X0_whereIs_2 (hv σ f) N (nI t) rec st) FU (nI 0)) rfl (hn.trans ?_)
    have ew : whr S t = 0 := wl_none 48 (fun c hc e => q ⟨c, hc, e⟩)
    simp (decide := true) (disch := omega) only [B_X0_whereIs_2, b1_some, b2_some, litI, neg1, nI_add, nI_mul, e1_p1, nI_e0, ib, ib1, ite_not, if_true, if_false, not_true_eq_false, not_false_eq_true, setI_hv, le_lit, Nat.le_refl, ew]
def oWhere (t : Int32) (S : St) : Int32 × St := if inR t 0 23 then (e1 (whr S t.toNatClampNeg), S) else (-2, S)
theorem m_where (M : Nat) (t : Int32) : OkMf M (fun σ => F_X10_where σ M t) (oWhere t) := by
  intro σ f S g h
  have s : SM M σ := h.1
  simp only [F_X10_where, oWhere, gd_hv s.1, x10_isThing, b2_some]
  rcases in_split t 0 23 (by omega) (by omega) with ⟨i, -, hi, rfl⟩ | hk
  case inr => simp (decide := true) (disch := omega) only [b1_some, b2_some, litI, neg1, nI_add, nI_mul, e1_p1, nI_e0, ib, ib1, ite_not, if_true, if_false, not_true_eq_false, not_false_eq_true, setI_hv, hk]; exact ⟨_, rfl, h, fun _ _ _ => rfl⟩
  have qi := eq_true (inR_of (Nat.zero_le i) hi (by omega))
  simp (decide := true) (disch := omega) only [b1_some, b2_some, litI, neg1, nI_add, nI_mul, e1_p1, nI_e0, ib, ib1, ite_not, if_true, if_false, not_true_eq_false, not_false_eq_true, setI_hv, qi, m_where' g h, cl_I]
  exact ⟨_, rfl, h, fun _ _ _ => rfl⟩
theorem x_where (N : Nat) (t : Int32) : OkXf N (fun σ => F_X0_where σ N t) (oWhere t) := by
  intro σ f S g h
  have s : SX N σ := h.1
  simp only [F_X0_where, oWhere, gd_hv s.t0, x0_isThing, b2_some]
  rcases in_split t 0 23 (by omega) (by omega) with ⟨i, -, hi, rfl⟩ | hk
  case inr => simp (decide := true) (disch := omega) only [b1_some, b2_some, litI, neg1, nI_add, nI_mul, e1_p1, nI_e0, ib, ib1, ite_not, if_true, if_false, not_true_eq_false, not_false_eq_true, setI_hv, hk]; exact ⟨_, rfl, h, fun _ _ _ => rfl⟩
  have qi := eq_true (inR_of (Nat.zero_le i) hi (by omega))
  simp (decide := true) (disch := omega) only [b1_some, b2_some, litI, neg1, nI_add, nI_mul, e1_p1, nI_e0, ib, ib1, ite_not, if_true, if_false, not_true_eq_false, not_false_eq_true, setI_hv, qi, x_where' g h, cl_I]
  exact ⟨_, rfl, h, fun _ _ _ => rfl⟩
/-! put -/
def putS (t c : Nat) (S : St) : St := w2 (w2 (w2 (w2 (w2 S 11 c (if 0 < S.2 10 c then S.2 9 c else 0)) 12 c (S.2 10 c)) 9 c (t + 1)) 10 c 100) 13 c (S.1 0 + 1)
def oPut (t c : Int32) (S : St) : Int32 × St := if inR t 0 23 ∧ inR c 0 47 then (if whr S t.toNatClampNeg = 0 then (e1 (S.2 9 c.toNatClampNeg), putS t.toNatClampNeg c.toNatClampNeg S) else (-4, S)) else (-2, S)
theorem m_put (M : Nat) (t c : Int32) : OkMf M (fun σ => F_X10_put σ M t c) (oPut t c) := by
  intro σ f S g h
  have s : SM M σ := h.1
  simp only [F_X10_put, oPut, gd_hv s.1, x10_isThing, x10_isCorner, b2_some]
  rcases in_split t 0 23 (by omega) (by omega) with ⟨i, -, hi, rfl⟩ | hk
  case inr => simp (decide := true) (disch := omega) only [b1_some, b2_some, litI, neg1, nI_add, nI_mul, e1_p1, nI_e0, ib, ib1, ite_not, if_true, if_false, not_true_eq_false, not_false_eq_true, setI_hv, hk, false_and]; exact ⟨_, rfl, h, fun _ _ _ => rfl⟩
  have qi := eq_true (inR_of (Nat.zero_le i) hi (by omega))
  rcases in_split c 0 47 (by omega) (by omega) with ⟨j, -, hj, rfl⟩ | hk
  case inr => simp (decide := true) (disch := omega) only [b1_some, b2_some, litI, neg1, nI_add, nI_mul, e1_p1, nI_e0, ib, ib1, ite_not, if_true, if_false, not_true_eq_false, not_false_eq_true, setI_hv, qi, hk, and_false]; exact ⟨_, rfl, h, fun _ _ _ => rfl⟩
  have qj := eq_true (inR_of (Nat.zero_le j) hj (by omega))
  have hb := g.cn (c := j) (by omega)
  have hd := g.dy
  have hw := whr_le S i
  by_cases q : whr S i = 0
  case neg =>
    simp (decide := true) (disch := omega) only [b1_some, b2_some, litI, neg1, nI_add, nI_mul, e1_p1, nI_e0, ib, ib1, ite_not, if_true, if_false, not_true_eq_false, not_false_eq_true, setI_hv, qi, qj, m_where' g h, cl_I, and_self, e1_inj, q]
    exact ⟨_, rfl, h, fun _ _ _ => rfl⟩
  have fin : RepM M (hv σ (u2 (u2 (u2 (u2 (u2 f (M + 8) j (e1 (if 0 < S.2 10 j then S.2 9 j else 0))) (M + 9) j (nI (S.2 10 j))) (M + 6) j (e1 (i + 1))) (M + 7) j (nI 100)) (M + 10) j (e1 (S.1 0 + 1)))) (putS i j S) := ((((h.set (11, 8, 48) (by decide) j _).set (12, 9, 48) (by decide) j _).set (9, 6, 48) (by decide) j (i + 1)).set (10, 7, 48) (by decide) j 100).set (13, 10, 48) (by decide) j (S.1 0 + 1)
  rw [e1_s, e1_s] at fin
  by_cases q1 : S.2 9 j = 0
  · have z := (hb.2.2.2.2.2.1 q1).1
    rw [z, if_neg (by omega)] at fin
    simp (decide := true) (disch := omega) only [gd_hv s.1, gI_hv s.1, pI_hv s.1, s.R9, s.A9, s.W9, s.R10, s.A10, s.W10, s.R11, s.A11, s.W11, s.R12, s.A12, s.W12, s.R13, s.A13, s.W13, b1_some, b2_some, litI, neg1, nI_add, nI_mul, e1_p1, nI_e0, ib, ib1, ite_not, if_true, if_false, not_true_eq_false, not_false_eq_true, setI_hv, F_X10_put_54, F_X10_put_55, F_X10_put_72, F_X10_put_93, qi, qj, m_where' g h, cl_I, and_self, e1_inj, q, h.a9, q1, u2_n, h.s0]
    exact ⟨_, rfl, fin, fun a k ha => by rw [u2_n (by omega), u2_n (by omega), u2_n (by omega), u2_n (by omega), u2_n (by omega)]⟩
  · by_cases q2 : S.2 10 j = 0
    · rw [q2, if_neg (by omega)] at fin
      simp (decide := true) (disch := omega) only [gd_hv s.1, gI_hv s.1, pI_hv s.1, s.R9, s.A9, s.W9, s.R10, s.A10, s.W10, s.R11, s.A11, s.W11, s.R12, s.A12, s.W12, s.R13, s.A13, s.W13, b1_some, b2_some, litI, neg1, nI_add, nI_mul, e1_p1, nI_e0, ib, ib1, ite_not, if_true, if_false, not_true_eq_false, not_false_eq_true, setI_hv, F_X10_put_54, F_X10_put_55, F_X10_put_72, F_X10_put_93, qi, qj, m_where' g h, cl_I, and_self, e1_inj, q, h.a9, q1, h.a10, q2, le_lit, Nat.le_refl, u2_n, h.s0]
      exact ⟨_, rfl, fin, fun a k ha => by rw [u2_n (by omega), u2_n (by omega), u2_n (by omega), u2_n (by omega), u2_n (by omega)]⟩
    · rw [if_pos (by omega)] at fin
      simp (decide := true) (disch := omega) only [gd_hv s.1, gI_hv s.1, pI_hv s.1, s.R9, s.A9, s.W9, s.R10, s.A10, s.W10, s.R11, s.A11, s.W11, s.R12, s.A12, s.W12, s.R13, s.A13, s.W13, b1_some, b2_some, litI, neg1, nI_add, nI_mul, e1_p1, nI_e0, ib, ib1, ite_not, if_true, if_false, not_true_eq_false, not_false_eq_true, setI_hv, F_X10_put_54, F_X10_put_55, F_X10_put_72, F_X10_put_93, qi, qj, m_where' g h, cl_I, and_self, e1_inj, q, h.a9, q1, h.a10, le_lit, eq_lit, show ¬ S.2 10 j ≤ 0 by omega, u2_n, h.s0]
      exact ⟨_, rfl, fin, fun a k ha => by rw [u2_n (by omega), u2_n (by omega), u2_n (by omega), u2_n (by omega), u2_n (by omega)]⟩
theorem x_put (N : Nat) (t c : Int32) : OkXf N (fun σ => F_X0_put σ N t c) (oPut t c) := by
  intro σ f S g h
  have s : SX N σ := h.1
  simp only [F_X0_put, oPut, gd_hv s.t0, x0_isThing, x0_isCorner, b2_some]
  rcases in_split t 0 23 (by omega) (by omega) with ⟨i, -, hi, rfl⟩ | hk
  case inr => simp (decide := true) (disch := omega) only [b1_some, b2_some, litI, neg1, nI_add, nI_mul, e1_p1, nI_e0, ib, ib1, ite_not, if_true, if_false, not_true_eq_false, not_false_eq_true, setI_hv, hk, false_and]; exact ⟨_, rfl, h, fun _ _ _ => rfl⟩
  have qi := eq_true (inR_of (Nat.zero_le i) hi (by omega))
  rcases in_split c 0 47 (by omega) (by omega) with ⟨j, -, hj, rfl⟩ | hk
  case inr => simp (decide := true) (disch := omega) only [b1_some, b2_some, litI, neg1, nI_add, nI_mul, e1_p1, nI_e0, ib, ib1, ite_not, if_true, if_false, not_true_eq_false, not_false_eq_true, setI_hv, qi, hk, and_false]; exact ⟨_, rfl, h, fun _ _ _ => rfl⟩
  have qj := eq_true (inR_of (Nat.zero_le j) hj (by omega))
  have hb := g.cn (c := j) (by omega)
  have hd := g.dy
  have hw := whr_le S i
  by_cases q : whr S i = 0
  case neg =>
    simp (decide := true) (disch := omega) only [b1_some, b2_some, litI, neg1, nI_add, nI_mul, e1_p1, nI_e0, ib, ib1, ite_not, if_true, if_false, not_true_eq_false, not_false_eq_true, setI_hv, qi, qj, x_where' g h, cl_I, and_self, e1_inj, q]
    exact ⟨_, rfl, h, fun _ _ _ => rfl⟩
  have fin : RepX N (hv σ (u2 (u2 (u2 (u2 (u2 f (N + 12 + (3 + 2 * j)) 0 (e1 (if 0 < S.2 10 j then S.2 9 j else 0))) (N + 12 + (3 + 2 * j)) 1 (nI (S.2 10 j))) (N + 12 + (2 + 2 * j)) 0 (nI i)) (N + 12 + (2 + 2 * j)) 1 (nI 100)) (N + 12 + (2 + 2 * j)) 3 (nI (S.1 0)))) (putS i j S) := by
    refine h.hs (fun a k ha => ?_) rfl (fun k hk => ?_) (fun d hd => ?_)
    · have e1 := ha (14 + 2 * j) (by omega) (by omega)
      have e2 := ha (15 + 2 * j) (by omega) (by omega)
      rw [u2_n (by omega), u2_n (by omega), u2_n (by omega), u2_n (by omega), u2_n (by omega)]
    · unfold putS
      rw [w2_nf (by omega), w2_nf (by omega), w2_nf (by omega), w2_nf (by omega), w2_nf (by omega)]
    · unfold putS
      by_cases e : d = j
      · subst e
        simp (decide := true) (disch := omega) only [u2_n, u2_e, w2_n, w2_eq, e1_s]
      · simp (decide := true) (disch := omega) only [u2_n, w2_n]
        exact ⟨h.a9 hd, h.a10 hd, h.a13 hd, h.a11 hd, h.a12 hd⟩
  by_cases q2 : S.2 10 j = 0
  · rw [if_neg (by omega)] at fin
    simp (decide := true) (disch := omega) only [gd_hv s.t0, gI_hv s.t0, pI_hv s.t0, s.R7, s.R12_0, s.C12, s.h12.CD, s.h12.CI, s.h12.CW, s.h12.G, s.h12.GD, s.h12.GI, s.h12.GW, b1_some, b2_some, litI, neg1, nI_add, nI_mul, e1_p1, nI_e0, ib, ib1, ite_not, if_true, if_false, not_true_eq_false, not_false_eq_true, setI_hv, F_X3_cover, F_X3_cover_24, F_X2_lay_3, F_X2_lay_4, qi, qj, x_where' g h, cl_I, and_self, e1_inj, q, h.a9, h.a10, q2, le_lit, Nat.le_refl, u2_n, h.s0]
    rw [q2] at fin
    exact ⟨_, rfl, fin, fun a k ha => by rw [u2_n (by omega), u2_n (by omega), u2_n (by omega), u2_n (by omega), u2_n (by omega)]⟩
  · rw [if_pos (by omega)] at fin
    simp (decide := true) (disch := omega) only [gd_hv s.t0, gI_hv s.t0, pI_hv s.t0, s.R7, s.R12_0, s.C12, s.h12.CD, s.h12.CI, s.h12.CW, s.h12.G, s.h12.GD, s.h12.GI, s.h12.GW, b1_some, b2_some, litI, neg1, nI_add, nI_mul, e1_p1, nI_e0, ib, ib1, ite_not, if_true, if_false, not_true_eq_false, not_false_eq_true, setI_hv, F_X3_cover, F_X3_cover_24, F_X2_lay_3, F_X2_lay_4, qi, qj, x_where' g h, cl_I, and_self, e1_inj, q, h.a9, h.a10, le_lit, show ¬ S.2 10 j ≤ 0 by omega, u2_n, h.s0]
    exact ⟨_, rfl, fin, fun a k ha => by rw [u2_n (by omega), u2_n (by omega), u2_n (by omega), u2_n (by omega), u2_n (by omega)]⟩
