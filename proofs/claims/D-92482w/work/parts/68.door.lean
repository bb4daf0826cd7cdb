set_option maxRecDepth 100000
/-! pure law 8: doors -/
abbrev mtc (S : St) (a b k : Nat) : Prop := (S.2 2 k = a ∧ S.2 3 k = b) ∨ (S.2 2 k = b ∧ S.2 3 k = a)
def jl (S : St) (a b : Nat) : Nat → Nat
  | 0 => 0
  | k + 1 => if jl S a b k = 1 ∨ mtc S a b k then 1 else 0
theorem jl_01 (S : St) (a b : Nat) : ∀ n, jl S a b n = 0 ∨ jl S a b n = 1
  | 0 => Or.inl rfl
  | n + 1 => by
    unfold jl
    split
    · exact Or.inr rfl
    · exact Or.inl rfl
theorem jl_iff (S : St) (a b : Nat) : ∀ n, jl S a b n = 1 ↔ ∃ k, k < n ∧ mtc S a b k
  | 0 => ⟨fun h => (Nat.zero_ne_one h).elim, fun ⟨k, h, _⟩ => absurd h (Nat.not_lt_zero k)⟩
  | n + 1 => by
    have ih := jl_iff S a b n
    unfold jl
    by_cases q : jl S a b n = 1 ∨ mtc S a b n
    · rw [if_pos q]
      refine ⟨fun _ => ?_, fun _ => rfl⟩
      rcases q with q | q
      · obtain ⟨k, h1, h2⟩ := ih.mp q
        exact ⟨k, by omega, h2⟩
      · exact ⟨n, by omega, q⟩
    · rw [if_neg q]
      refine ⟨fun h => absurd h (by decide), fun ⟨k, h1, h2⟩ => ?_⟩
      exfalso
      apply q
      by_cases e : k = n
      · subst e
        exact Or.inr h2
      · exact Or.inl (ih.mpr ⟨k, by omega, h2⟩)
theorem jl_jn (S : St) (a b : Nat) : jl S a b (S.1 1) = 1 ↔ jn S a b := jl_iff S a b (S.1 1)
theorem jn_comm (S : St) (a b : Nat) : jn S a b ↔ jn S b a := by
  constructor
  · rintro ⟨k, h, q | q⟩
    · exact ⟨k, h, Or.inr q⟩
    · exact ⟨k, h, Or.inl q⟩
  · rintro ⟨k, h, q | q⟩
    · exact ⟨k, h, Or.inr q⟩
    · exact ⟨k, h, Or.inl q⟩
theorem Good.dr {S : St} (g : Good S) {k : Nat} (hk : k < S.1 1) : S.2 2 k < 8 ∧ S.2 3 k < 8 ∧ S.2 2 k ≠ S.2 3 k := g.2.2.2.2.2.2.1 k hk
theorem Good.dm {S : St} (g : Good S) : S.1 1 ≤ 14 := g.2.1
theorem m_joined {M : Nat} {σ : Hp} {f : Nat → Nat → Int32} {S : St} (g : Good S) (h : RepM M (hv σ f) S) {a b : Nat} (ha : a < 8) (hb : b < 8) : F_X10_areJoined (hv σ f) M (nI a) (nI b) = some (nI (jl S a b (S.1 1)), hv σ f) := by
  have s : SM M σ := h.1
  have hd := g.dm
  unfold F_X10_areJoined L_X10_areJoined_5
  rw [gd_hv s.1]
  obtain ⟨n, hn⟩ := it_FU (body := fun rec st => B_X10_areJoined_5 (hv σ f) M (nI a) (nI b) rec st.1 st.2) (fun i => (nI (jl S a b i), nI i)) 0 (S.1 1) (by omega) (by omega) (fun i _ hi rec => by
    have hr := g.dr hi
    show B_X10_areJoined_5 (hv σ f) M (nI a) (nI b) rec (nI (jl S a b i)) (nI i) = rec (nI (if jl S a b i = 1 ∨ mtc S a b i then 1 else 0), nI (i + 1))
    rcases jl_01 S a b i with e | e
    · simp (decide := true) (disch := omega) only [B_X10_areJoined_5, F_X10_areJoined_40, mtc, gd_hv s.1, gI_hv s.1, pI_hv s.1, s.R2, s.A2, s.W2, s.R3, s.A3, s.W3, b1_some, b2_some, litI, neg1, nI_add, nI_mul, e1_p1, nI_e0, ib, ib1, ite_not, if_true, if_false, not_true_eq_false, not_false_eq_true, setI_hv, h.s1, h.a2, h.a3, le_lit, eq_lit, show ¬ S.1 1 ≤ i by omega, e, false_or]
      repeat' split
      all_goals first | rfl | (exfalso; omega)
    · simp (decide := true) (disch := omega) only [B_X10_areJoined_5, gd_hv s.1, gI_hv s.1, pI_hv s.1, s.R2, s.A2, s.W2, s.R3, s.A3, s.W3, b1_some, b2_some, litI, neg1, nI_add, nI_mul, e1_p1, nI_e0, ib, ib1, ite_not, if_true, if_false, not_true_eq_false, not_false_eq_true, setI_hv, h.s1, le_lit, eq_lit, show ¬ S.1 1 ≤ i by omega, e, true_or])
  refine Eq.trans (b := it (fun rec st => B_X10_areJoined_5 (hv σ f) M (nI a) (nI b) rec st.1 st.2) FU (nI (jl S a b 0), nI 0)) rfl (hn.trans ?_)
  rcases jl_01 S a b (S.1 1) with e | e
  · simp (decide := true) (disch := omega) only [B_X10_areJoined_5, gd_hv s.1, gI_hv s.1, pI_hv s.1, b1_some, b2_some, litI, neg1, nI_add, nI_mul, e1_p1, nI_e0, ib, ib1, ite_not, if_true, if_false, not_true_eq_false, not_false_eq_true, setI_hv, h.s1, le_lit, Nat.le_refl, e]
    exact zr_0 _
  · simp (decide := true) (disch := omega) only [B_X10_areJoined_5, gd_hv s.1, gI_hv s.1, pI_hv s.1, b1_some, b2_some, litI, neg1, nI_add, nI_mul, e1_p1, nI_e0, ib, ib1, ite_not, if_true, if_false, not_true_eq_false, not_false_eq_true, setI_hv, h.s1, le_lit, Nat.le_refl, e]
    exact zr_1 _
def doorS (a b : Nat) (S : St) : St := w1 (w2 (w2 S 2 (S.1 1) a) 3 (S.1 1) b) 1 (S.1 1 + 1)
theorem jn_door (S : St) (a b x y : Nat) : jn (doorS a b S) x y ↔ jn S x y ∨ (a = x ∧ b = y) ∨ (a = y ∧ b = x) := by
  have e1 : (doorS a b S).1 1 = S.1 1 + 1 := w1_eq
  have e2 : ∀ k, (doorS a b S).2 2 k = if k = S.1 1 then a else S.2 2 k := fun k => by
    show (w2 (w2 S 2 (S.1 1) a) 3 (S.1 1) b).2 2 k = _
    rw [w2_ne (by decide), w2_2]
    by_cases q : k = S.1 1
    · rw [if_pos ⟨rfl, q⟩, if_pos q]
    · rw [if_neg (fun z => q z.2), if_neg q]
  have e3 : ∀ k, (doorS a b S).2 3 k = if k = S.1 1 then b else S.2 3 k := fun k => by
    show (w2 (w2 S 2 (S.1 1) a) 3 (S.1 1) b).2 3 k = _
    rw [w2_2, w2_ne (by decide)]
    by_cases q : k = S.1 1
    · rw [if_pos ⟨rfl, q⟩, if_pos q]
    · rw [if_neg (fun z => q z.2), if_neg q]
  unfold jn
  rw [e1]
  constructor
  · rintro ⟨k, hk, q⟩
    rw [e2, e3] at q
    by_cases z : k = S.1 1
    · rw [if_pos z, if_pos z] at q
      exact Or.inr q
    · rw [if_neg z, if_neg z] at q
      exact Or.inl ⟨k, by omega, q⟩
  · rintro (⟨k, hk, q⟩ | q)
    · refine ⟨k, by omega, ?_⟩
      rw [e2, e3, if_neg (by omega), if_neg (by omega)]
      exact q
    · refine ⟨S.1 1, by omega, ?_⟩
      rw [e2, e3, if_pos rfl, if_pos rfl]
      exact q
def oDoor (a b : Int32) (S : St) : Int32 × St := if inR a 0 7 ∧ inR b 0 7 ∧ ¬ a = b then (if jl S a.toNatClampNeg b.toNatClampNeg (S.1 1) = 1 then (-4, S) else if S.1 1 = 14 then (-5, S) else (nI (S.1 1 + 1), doorS a.toNatClampNeg b.toNatClampNeg S)) else (-2, S)
theorem m_door (M : Nat) (a b : Int32) : OkMf M (fun σ => F_X10_door σ M a b) (oDoor a b) := by
  intro σ f S g h
  have s : SM M σ := h.1
  have hd := g.dm
  simp only [F_X10_door, oDoor, gd_hv s.1, x10_isRoom, b2_some]
  rcases in_split a 0 7 (by omega) (by omega) with ⟨i, -, hi, rfl⟩ | hk
  case inr => simp (decide := true) (disch := omega) only [b1_some, b2_some, litI, neg1, nI_add, nI_mul, e1_p1, nI_e0, ib, ib1, ite_not, if_true, if_false, not_true_eq_false, not_false_eq_true, setI_hv, hk, false_and]; exact ⟨_, rfl, h, fun _ _ _ => rfl⟩
  have qi := eq_true (inR_of (Nat.zero_le i) hi (by omega))
  rcases in_split b 0 7 (by omega) (by omega) with ⟨j, -, hj, rfl⟩ | hv
  case inr => simp (decide := true) (disch := omega) only [b1_some, b2_some, litI, neg1, nI_add, nI_mul, e1_p1, nI_e0, ib, ib1, ite_not, if_true, if_false, not_true_eq_false, not_false_eq_true, setI_hv, qi, hv, and_false, false_and]; exact ⟨_, rfl, h, fun _ _ _ => rfl⟩
  have qj := eq_true (inR_of (Nat.zero_le j) hj (by omega))
  by_cases hij : i = j
  · subst hij
    simp (decide := true) (disch := omega) only [b1_some, b2_some, litI, neg1, nI_add, nI_mul, e1_p1, nI_e0, ib, ib1, ite_not, if_true, if_false, not_true_eq_false, not_false_eq_true, setI_hv, qi, and_false]
    exact ⟨_, rfl, h, fun _ _ _ => rfl⟩
  have hjo := m_joined g h (a := i) (b := j) (by omega) (by omega)
  rcases jl_01 S i j (S.1 1) with e | e
  · simp (decide := true) (disch := omega) only [b1_some, b2_some, litI, neg1, nI_add, nI_mul, e1_p1, nI_e0, ib, ib1, ite_not, if_true, if_false, not_true_eq_false, not_false_eq_true, setI_hv, qi, qj, hij, eq_lit, and_self, hjo, e, cl_I]
    by_cases q : S.1 1 = 14
    · simp (decide := true) (disch := omega) only [gd_hv s.1, gI_hv s.1, pI_hv s.1, b1_some, b2_some, litI, neg1, nI_add, nI_mul, e1_p1, nI_e0, ib, ib1, ite_not, if_true, if_false, not_true_eq_false, not_false_eq_true, setI_hv, h.s1, q]
      exact ⟨_, rfl, h, fun _ _ _ => rfl⟩
    · simp (decide := true) (disch := omega) only [gd_hv s.1, gI_hv s.1, pI_hv s.1, s.R2, s.A2, s.W2, s.R3, s.A3, s.W3, b1_some, b2_some, litI, neg1, nI_add, nI_mul, e1_p1, nI_e0, ib, ib1, ite_not, if_true, if_false, not_true_eq_false, not_false_eq_true, setI_hv, eq_lit, h.s1, q, u2_n, u2_e]
      exact ⟨_, rfl, ((h.set (2, 1, 14) (by decide) (S.1 1) i).set (3, 2, 14) (by decide) (S.1 1) j).setS 1 (S.1 1 + 1), fun a k ha => by rw [u2_n (by omega), u2_n (by omega), u2_n (by omega)]⟩
  · simp (decide := true) (disch := omega) only [gd_hv s.1, gI_hv s.1, pI_hv s.1, b1_some, b2_some, litI, neg1, nI_add, nI_mul, e1_p1, nI_e0, ib, ib1, ite_not, if_true, if_false, not_true_eq_false, not_false_eq_true, setI_hv, qi, qj, hij, eq_lit, and_self, hjo, e, h.s1, cl_I]
    exact ⟨_, rfl, h, fun _ _ _ => rfl⟩
theorem RepX.jo {N : Nat} {σ : Hp} {f : Nat → Nat → Int32} {S : St} (h : RepX N (hv σ f) S) {a b : Nat} (ha : a < 8) (hb : b < 8) : f (N + (2 + a)) b = nI (jl S a b (S.1 1)) := by
  have hc := h.2.2.2.2.1 a b ha hb
  rcases jl_01 S a b (S.1 1) with e | e
  · rw [e]
    exact hc.2 (fun q => by rw [(jl_jn S a b).mpr q] at e; cases e)
  · rw [e]
    exact hc.1 ((jl_jn S a b).mp e)
theorem RepX.wDoor {N : Nat} {σ : Hp} {f : Nat → Nat → Int32} {S : St} (h : RepX N (hv σ f) S) {a b : Nat} (ha : a < 8) (hb : b < 8) : RepX N (hv σ (u2 (u2 (u2 f (N + (2 + a)) b (nI 1)) (N + (2 + b)) a (nI 1)) N 1 (nI (S.1 1 + 1)))) (doorS a b S) := by
  obtain ⟨h1, h2, hA, hB, hC, hD, hE, hF, hG, hH⟩ := h
  have hx3 : ∀ x ∈ xAr, 10 ≤ x.1 ∧ 5 ≤ x.2.1 := by decide
  have e3 : ∀ k, 4 ≤ k → (doorS a b S).2 k = S.2 k := fun k hk => by
    unfold doorS
    rw [w1_2, w2_nf (by omega), w2_nf (by omega)]
  refine ⟨h1, h2, ((hA.ne (by omega)).ne (by omega)).set (1, 1) (by decide) (S.1 1 + 1), (((hB.ne (fun x hx => by have := hx3 x hx; omega)).ne (fun x hx => by have := hx3 x hx; omega)).ne0).cg (fun x hx i => by rw [e3 _ (by have := hx3 x hx; omega)]), fun x y hx hy => ?_, (((hD.ne (by omega)).ne (by omega)).ne0).cg (fun k _ _ i => by rw [e3 _ (by omega)]), ?_, (((hF.ne (by omega)).ne (by omega)).ne0).cg (fun k _ _ i => by rw [e3 _ (by omega)]), ?_, ?_⟩
  · have hc := hC x y hx hy
    have hj := jn_door S a b x y
    show (jn (doorS a b S) x y → u2 (u2 (u2 f (N + (2 + a)) b (nI 1)) (N + (2 + b)) a (nI 1)) N 1 (nI (S.1 1 + 1)) (N + (2 + x)) y = 1) ∧ (¬ jn (doorS a b S) x y → u2 (u2 (u2 f (N + (2 + a)) b (nI 1)) (N + (2 + b)) a (nI 1)) N 1 (nI (S.1 1 + 1)) (N + (2 + x)) y = 0)
    rw [u2_n (by omega), hj]
    by_cases q : x = b ∧ y = a
    · rw [u2_eq (by omega) q.2]
      exact ⟨fun _ => rfl, fun z => absurd (Or.inr (Or.inr ⟨q.2.symm, q.1.symm⟩)) z⟩
    · rw [u2_n (by omega)]
      by_cases q2 : x = a ∧ y = b
      · rw [u2_eq (by omega) q2.2]
        exact ⟨fun _ => rfl, fun z => absurd (Or.inr (Or.inl ⟨q2.1.symm, q2.2.symm⟩)) z⟩
      · rw [u2_n (by omega)]
        refine ⟨fun z => hc.1 ?_, fun z => hc.2 (fun w => z (Or.inl w))⟩
        rcases z with z | z | z
        · exact z
        · exact absurd ⟨z.1.symm, z.2.symm⟩ q2
        · exact absurd ⟨z.2.symm, z.1.symm⟩ q
  · rw [e3 20 (by omega)]; exact ((hE.ne (by omega)).ne (by omega)).ne0
  · rw [e3 38 (by omega)]; exact ((hG.ne (by omega)).ne (by omega)).ne0
  · have e4 : (doorS a b S).1 29 = S.1 29 := w1_ne (by decide)
    rw [e3 30 (by omega), e4]
    exact ((hH.ne (by omega)).ne (by omega)).ne0
theorem nar1 : vp_nar .boolean (nI 1) = nI 1 := rfl
theorem x_door (N : Nat) (a b : Int32) : OkXf N (fun σ => F_X0_door σ N a b) (oDoor a b) := by
  intro σ f S g h
  have s : SX N σ := h.1
  have hd := g.dm
  simp only [F_X0_door, oDoor, gd_hv s.t0, x0_isRoom, b2_some]
  rcases in_split a 0 7 (by omega) (by omega) with ⟨i, -, hi, rfl⟩ | hk
  case inr => simp (decide := true) (disch := omega) only [b1_some, b2_some, litI, neg1, nI_add, nI_mul, e1_p1, nI_e0, ib, ib1, ite_not, if_true, if_false, not_true_eq_false, not_false_eq_true, setI_hv, hk, false_and]; exact ⟨_, rfl, h, fun _ _ _ => rfl⟩
  have qi := eq_true (inR_of (Nat.zero_le i) hi (by omega))
  rcases in_split b 0 7 (by omega) (by omega) with ⟨j, -, hj, rfl⟩ | hv
  case inr => simp (decide := true) (disch := omega) only [b1_some, b2_some, litI, neg1, nI_add, nI_mul, e1_p1, nI_e0, ib, ib1, ite_not, if_true, if_false, not_true_eq_false, not_false_eq_true, setI_hv, qi, hv, and_false, false_and]; exact ⟨_, rfl, h, fun _ _ _ => rfl⟩
  have qj := eq_true (inR_of (Nat.zero_le j) hj (by omega))
  by_cases hij : i = j
  · subst hij
    simp (decide := true) (disch := omega) only [b1_some, b2_some, litI, neg1, nI_add, nI_mul, e1_p1, nI_e0, ib, ib1, ite_not, if_true, if_false, not_true_eq_false, not_false_eq_true, setI_hv, qi, and_false]
    exact ⟨_, rfl, h, fun _ _ _ => rfl⟩
  rcases jl_01 S i j (S.1 1) with e | e
  · simp (decide := true) (disch := omega) only [gd_hv s.t0, gI_hv s.t0, pI_hv s.t0, s.R0, s.J, s.AJ, b1_some, b2_some, litI, neg1, nI_add, nI_mul, e1_p1, nI_e0, ib, ib1, ite_not, if_true, if_false, not_true_eq_false, not_false_eq_true, setI_hv, qi, qj, hij, eq_lit, and_self, h.jo, e, cl_I]
    by_cases q : S.1 1 = 14
    · simp (decide := true) (disch := omega) only [gd_hv s.t0, gI_hv s.t0, pI_hv s.t0, s.R0, b1_some, b2_some, litI, neg1, nI_add, nI_mul, e1_p1, nI_e0, ib, ib1, ite_not, if_true, if_false, not_true_eq_false, not_false_eq_true, setI_hv, h.s1, q]
      exact ⟨_, rfl, h, fun _ _ _ => rfl⟩
    · simp (decide := true) (disch := omega) only [gd_hv s.t0, gI_hv s.t0, pI_hv s.t0, s.R0, s.J, s.WJ, b1_some, b2_some, litI, neg1, nI_add, nI_mul, e1_p1, nI_e0, ib, ib1, ite_not, if_true, if_false, not_true_eq_false, not_false_eq_true, setI_hv, eq_lit, h.s1, q, u2_n, u2_e, nar1]
      exact ⟨_, rfl, h.wDoor (by omega) (by omega), fun a k ha => by rw [u2_n (by omega), u2_n (by omega), u2_n (by omega)]⟩
  · simp (decide := true) (disch := omega) only [gd_hv s.t0, gI_hv s.t0, pI_hv s.t0, s.R0, s.J, s.AJ, b1_some, b2_some, litI, neg1, nI_add, nI_mul, e1_p1, nI_e0, ib, ib1, ite_not, if_true, if_false, not_true_eq_false, not_false_eq_true, setI_hv, qi, qj, hij, eq_lit, and_self, h.jo, e, h.s1, cl_I]
    exact ⟨_, rfl, h, fun _ _ _ => rfl⟩
