set_option maxRecDepth 100000
/-! pure law 13: days -/
def dKn (S : St) : Nat → Nat → Nat
  | 0, c => S.2 10 c
  | j + 1, c => dKv S (dKn S j c) c
def dWn (S : St) : Nat → Nat → Nat
  | 0, c => S.2 12 c
  | j + 1, c => dWv S (dWn S j c)
def dGn (S : St) (j c : Nat) : Nat := if dWn S j c = 0 then 0 else S.2 11 c
theorem dGn_s (S : St) (j c : Nat) : dGv S (dWn S j c) (dGn S j c) = dGn S (j + 1) c := by
  unfold dGv dGn
  show (if dWv S (dWn S j c) = 0 then 0 else if dWn S j c = 0 then 0 else S.2 11 c) = if dWv S (dWn S j c) = 0 then 0 else S.2 11 c
  by_cases q : dWv S (dWn S j c) = 0
  · rw [if_pos q, if_pos q]
  · rw [if_neg q, if_neg q, if_neg (fun z => q (by unfold dWv; omega))]
theorem dGn_0 {S : St} (g : Good S) {c : Nat} (hc : c < 48) : dGn S 0 c = S.2 11 c := by
  have := g.cn hc
  unfold dGn
  show (if S.2 12 c = 0 then 0 else S.2 11 c) = _
  by_cases q : S.2 12 c = 0
  · rw [if_pos q]; omega
  · rw [if_neg q]
theorem HBn {S : St} (g : Good S) : ∀ j, HB (S.2 9) (dKn S j) (dGn S j) (dWn S j)
  | 0 => fun c hc => by
    rw [dGn_0 g hc]
    exact g.hb c hc
  | j + 1 => fun c hc => by
    have := (HBn g j).day c hc
    rw [← dGn_s]
    exact this
def daysS (n : Nat) (S : St) : St := w1 (wA (wA (wA S 10 (dKn S n)) 12 (dWn S n)) 11 (dGn S n)) 0 (S.1 0 + n)
/-! the component's days -/
def xb (N : Nat) (S : St) (f : Nat → Nat → Int32) : Nat → (Nat → Nat → Int32)
  | 0 => f
  | j + 1 => gb (N + 12) S (dKn S j) (dGn S j) (dWn S j) (xb N S f j) 48
theorem xb_off {N : Nat} {S : St} {f : Nat → Nat → Int32} {x k : Nat} (h : ∀ c, c < 48 → ¬ (x = N + 12 + (2 + 2 * c) ∧ k = 1) ∧ x ≠ N + 12 + (3 + 2 * c)) : ∀ j, xb N S f j x k = f x k
  | 0 => rfl
  | j + 1 => (gb_off 48 h).trans (xb_off h j)
theorem xb_hd {N : Nat} {S : St} {f : Nat → Nat → Int32} (g : Good S) (hd : HD (N + 12) f (S.2 9) (S.2 10) (S.2 11) (S.2 12)) : ∀ j, HD (N + 12) (xb N S f j) (S.2 9) (dKn S j) (dGn S j) (dWn S j)
  | 0 => fun c hc => by
    rw [dGn_0 g hc]
    exact hd c hc
  | j + 1 => fun c hc => by
    have := gb_hd (xb_hd g hd j) c hc
    rw [← dGn_s]
    exact this
theorem x_days' {N : Nat} {σ : Hp} {f : Nat → Nat → Int32} {S : St} (g : Good S) (h : RepX N (hv σ f) S) (j : Nat) : F_X1_goBy (hv σ (xb N S f j)) (N + 12) = some (hv σ (xb N S f (j + 1))) :=
  x_goBy g h.1 (SX.h12 h.1) (Nat.le_refl _) (h.lk.cg (fun x k hx => xb_off (fun c hc => by omega) j)) (xb_hd g h.hd j) (HBn g j)
def oDays (n : Int32) (S : St) : Int32 × St := if inR n 1 60 then (if S.1 0 + n.toNatClampNeg ≤ 400 then (nI (S.1 0 + n.toNatClampNeg), daysS n.toNatClampNeg S) else (-3, S)) else (-3, S)
theorem x_days (N : Nat) (n : Int32) : OkXf N (fun σ => F_X0_days σ N n) (oDays n) := by
  intro σ f S g h
  have s : SX N σ := h.1
  have dy := g.dy
  simp only [F_X0_days, oDays, gd_hv s.t0, x0_inR _ n 1 60 1 60 (by decide) (by decide), b2_some]
  rcases in_split n 1 60 (by omega) (by omega) with ⟨i, hi0, hi, rfl⟩ | hk
  case inr => simp (decide := true) (disch := omega) only [b1_some, b2_some, litI, neg1, nI_add, nI_mul, e1_p1, nI_e0, ib, ib1, ite_not, if_true, if_false, not_true_eq_false, not_false_eq_true, setI_hv, hk]; exact ⟨_, rfl, h, fun _ _ _ => rfl⟩
  have qi := eq_true (inR_of hi0 hi (by omega))
  by_cases q : S.1 0 + i ≤ 400
  case neg =>
    simp (decide := true) (disch := omega) only [gd_hv s.t0, gI_hv s.t0, pI_hv s.t0, b1_some, b2_some, litI, neg1, nI_add, nI_mul, e1_p1, nI_e0, ib, ib1, ite_not, if_true, if_false, not_true_eq_false, not_false_eq_true, setI_hv, qi, h.s0, le_lit, q, cl_I]
    exact ⟨_, rfl, h, fun _ _ _ => rfl⟩
  obtain ⟨r, hr⟩ := it_FU (body := fun rec st => B_X0_days_29 N (nI i) rec st.1 st.2) (fun j => (hv σ (xb N S f j), nI j)) 0 i (by omega) (by omega) (fun j _ hj rec => by
    simp (decide := true) (disch := omega) only [B_X0_days_29, gd_hv s.t0, gI_hv s.t0, pI_hv s.t0, s.R7, x_days' g h, b1_some, b2_some, litI, neg1, nI_add, nI_mul, e1_p1, nI_e0, ib, ib1, ite_not, if_true, if_false, not_true_eq_false, not_false_eq_true, setI_hv, le_lit, show ¬ i ≤ j by omega])
  have e0 : L_X0_days_29 N (nI i) FU (hv σ f, nI 0) = some (nI (S.1 0 + i), hv σ (u2 (xb N S f i) N 6 (nI (S.1 0 + i)))) := by
    refine hr.trans ?_
    have e6 : xb N S f i N 6 = nI (S.1 0) := (xb_off (fun c hc => by omega) i).trans h.s0
    simp (decide := true) (disch := omega) only [B_X0_days_29, F_X0_days_47, gd_hv s.t0, gI_hv s.t0, pI_hv s.t0, b1_some, b2_some, litI, neg1, nI_add, nI_mul, e1_p1, nI_e0, ib, ib1, ite_not, if_true, if_false, not_true_eq_false, not_false_eq_true, setI_hv, le_lit, Nat.le_refl, e6, u2_e]
  simp (decide := true) (disch := omega) only [gd_hv s.t0, gI_hv s.t0, pI_hv s.t0, b1_some, b2_some, litI, neg1, nI_add, nI_mul, e1_p1, nI_e0, ib, ib1, ite_not, if_true, if_false, not_true_eq_false, not_false_eq_true, setI_hv, qi, h.s0, le_lit, q, cl_I, e0]
  refine ⟨_, rfl, ?_, fun a k ha => (u2_n (by omega)).trans (xb_off (fun c hc => by omega) i)⟩
  have hd := xb_hd g h.hd i
  have h' : RepX N (hv σ (xb N S f i)) (wA (wA (wA S 10 (dKn S i)) 12 (dWn S i)) 11 (dGn S i)) := by
    refine h.hs (fun a k ha => xb_off (fun c hc => ?_) i) rfl (fun k hk => ?_) (fun c hc => ?_)
    · have e1 := ha (14 + 2 * c) (by omega) (by omega)
      have e2 := ha (15 + 2 * c) (by omega) (by omega)
      omega
    · rw [wA_n (by omega), wA_n (by omega), wA_n (by omega)]
    · have d := hd c hc
      rw [wA_n (by decide), wA_n (by decide), wA_n (by decide), wA_n (by decide), wA_n (by decide), wA_e, wA_n (by decide), wA_n (by decide), wA_n (by decide), wA_e, wA_n (by decide), wA_e]
      exact ⟨d.1, d.2.1, (xb_off (fun c hc => by omega) i).trans (h.a13 hc), d.2.2.1, d.2.2.2⟩
  exact h'.wSc (6, 0) (by decide) (by decide) (S.1 0 + i)
/-! the twin's days -/
theorem grow3 {F : Nat → Nat → Int32} {A B C i : Nat} {a b c : Nat → Int32} (h1 : A ≠ B) (h2 : A ≠ C) (h3 : B ≠ C) : u2 (u2 (u2 (fy (fy (fy F A i a) B i b) C i c) A i (a i)) B i (b i)) C i (c i) = fy (fy (fy F A (i + 1) a) B (i + 1) b) C (i + 1) c := by
  rw [fy_u2 (Ne.symm h2), fy_u2 (Ne.symm h1), fy_grow, fy_u2 (Ne.symm h3), fy_grow, fy_grow]
theorem m_days' {M : Nat} {σ : Hp} {f : Nat → Nat → Int32} {S : St} (g : Good S) (h : RepM M (hv σ f) S) (j : Nat) : F_X10_goDay (hv σ (fz (fz f (M + 12) 48 (dKn S j)) (M + 13) 48 (dWn S j))) M (nI 0) (nI 0) = some (hv σ (fz (fz f (M + 12) 48 (dKn S (j + 1))) (M + 13) 48 (dWn S (j + 1)))) := by
  have hb := HBn g j
  rw [m_goDay g h (n := 48) (at' := 0) (by omega) (by omega) (fun k hk => (hb k hk).2.1) (fun k hk => (hb k hk).2.2.2.1)]
  have e1 : fz f (M + 12) 48 (gA S 0 48 (dKn S j)) = fz f (M + 12) 48 (dKn S (j + 1)) := fz_cg (fun k hk => by
    show (if 0 ≤ k ∧ k < 0 + 48 then dKv S (dKn S j k) (k - 0) else dKn S j k) = dKv S (dKn S j k) k
    rw [if_pos (by omega)]
    rfl)
  have e2 : fz (fz f (M + 12) 48 (dKn S (j + 1))) (M + 13) 48 (gW S 0 48 (dWn S j)) = fz (fz f (M + 12) 48 (dKn S (j + 1))) (M + 13) 48 (dWn S (j + 1)) := fz_cg (fun k hk => by
    show (if 0 ≤ k ∧ k < 0 + 48 then dWv S (dWn S j k) else dWn S j k) = dWv S (dWn S j k)
    rw [if_pos (by omega)])
  rw [e1, e2]
theorem m_days (M : Nat) (n : Int32) : OkMf M (fun σ => F_X10_days σ M n) (oDays n) := by
  intro σ f S g h
  have s : SM M σ := h.1
  have dy := g.dy
  simp only [F_X10_days, oDays, gd_hv s.1, x10_inR _ n 1 60 1 60 rfl rfl, b2_some]
  rcases in_split n 1 60 (by omega) (by omega) with ⟨i, hi0, hi, rfl⟩ | hk
  case inr => simp (decide := true) (disch := omega) only [b1_some, b2_some, litI, neg1, nI_add, nI_mul, e1_p1, nI_e0, ib, ib1, ite_not, if_true, if_false, not_true_eq_false, not_false_eq_true, setI_hv, hk]; exact ⟨_, rfl, h, fun _ _ _ => rfl⟩
  have qi := eq_true (inR_of hi0 hi (by omega))
  by_cases q : S.1 0 + i ≤ 400
  case neg =>
    simp (decide := true) (disch := omega) only [gd_hv s.1, gI_hv s.1, pI_hv s.1, b1_some, b2_some, litI, neg1, nI_add, nI_mul, e1_p1, nI_e0, ib, ib1, ite_not, if_true, if_false, not_true_eq_false, not_false_eq_true, setI_hv, qi, h.s0, le_lit, q, cl_I]
    exact ⟨_, rfl, h, fun _ _ _ => rfl⟩
  have hb := HBn g i
  have h0 : RepM M (hv σ (fz (fz f (M + 12) 48 (dKn S i)) (M + 13) 48 (dWn S i))) S := (h.zz 12 48 _ (by omega)).zz 13 48 _ (by omega)
  have r1 : ∀ k, k < 48 → fz (fz f (M + 12) 48 (dKn S i)) (M + 13) 48 (dWn S i) (M + 12) k = nI (dKn S i k) := fun k hk => by rw [fz_off (by omega), fz_rd hk]
  have r2 : ∀ k, k < 48 → fz (fz f (M + 12) 48 (dKn S i)) (M + 13) 48 (dWn S i) (M + 13) k = nI (dWn S i k) := fun k hk => by rw [fz_rd hk]
  have off : ∀ a k, a ≠ M + 12 → a ≠ M + 13 → fz (fz f (M + 12) 48 (dKn S i)) (M + 13) 48 (dWn S i) a k = f a k := fun a k h1 h2 => by rw [fz_off h2, fz_off h1]
  obtain ⟨r, hr⟩ := it_FU (body := fun rec st => B_X10_days_31 M (nI i) rec st.1 st.2) (fun j => (hv σ (fz (fz f (M + 12) 48 (dKn S j)) (M + 13) 48 (dWn S j)), nI j)) 0 i (by omega) (by omega) (fun j _ hj rec => by
    simp (decide := true) (disch := omega) only [B_X10_days_31, m_days' g h, b1_some, b2_some, litI, neg1, nI_add, nI_mul, e1_p1, nI_e0, ib, ib1, ite_not, if_true, if_false, not_true_eq_false, not_false_eq_true, setI_hv, le_lit, show ¬ i ≤ j by omega])
  generalize fz (fz f (M + 12) 48 (dKn S i)) (M + 13) 48 (dWn S i) = F at h0 r1 r2 off hr
  obtain ⟨r', hr'⟩ := it_FU (body := fun rec st => B_X10_days_50 M (nI i) rec st.1 st.2) (fun c => (hv σ (fy (fy (fy F (M + 7) c (fun k => nI (dKn S i k))) (M + 9) c (fun k => nI (dWn S i k))) (M + 8) c (fun k => e1 (dGn S i k))), nI c)) 0 48 (by omega) (by omega) (fun c _ hc rec => by
    have b := hb c hc
    have bg := g.cn hc
    show B_X10_days_50 M (nI i) rec (hv σ (fy (fy (fy F (M + 7) c (fun k => nI (dKn S i k))) (M + 9) c (fun k => nI (dWn S i k))) (M + 8) c (fun k => e1 (dGn S i k)))) (nI c) = rec (hv σ (fy (fy (fy F (M + 7) (c + 1) (fun k => nI (dKn S i k))) (M + 9) (c + 1) (fun k => nI (dWn S i k))) (M + 8) (c + 1) (fun k => e1 (dGn S i k))), nI (c + 1))
    rw [← grow3 (by omega) (by omega) (by omega)]
    have z1 : fy (fy (fy F (M + 7) c (fun k => nI (dKn S i k))) (M + 9) c (fun k => nI (dWn S i k))) (M + 8) c (fun k => e1 (dGn S i k)) (M + 12) c = nI (dKn S i c) := by rw [fy_off (by omega), fy_off (by omega), fy_off (by omega), r1 c hc]
    have z2 : fy (fy (fy F (M + 7) c (fun k => nI (dKn S i k))) (M + 9) c (fun k => nI (dWn S i k))) (M + 8) c (fun k => e1 (dGn S i k)) (M + 13) c = nI (dWn S i c) := by rw [fy_off (by omega), fy_off (by omega), fy_off (by omega), r2 c hc]
    have z3 : fy (fy (fy F (M + 7) c (fun k => nI (dKn S i k))) (M + 9) c (fun k => nI (dWn S i k))) (M + 8) c (fun k => e1 (dGn S i k)) (M + 8) c = e1 (S.2 11 c) := by rw [fy_off (by omega), fy_off (by omega), fy_off (by omega), h0.a11 hc]
    generalize fy (fy (fy F (M + 7) c (fun k => nI (dKn S i k))) (M + 9) c (fun k => nI (dWn S i k))) (M + 8) c (fun k => e1 (dGn S i k)) = F' at z1 z2 z3
    by_cases z : dWn S i c = 0
    · have dg : dGn S i c = 0 := if_pos z
      simp (decide := true) (disch := omega) only [B_X10_days_50, gd_hv s.1, gI_hv s.1, pI_hv s.1, s.R10, s.A10, s.W10, s.R11, s.A11, s.W11, s.R12, s.A12, s.W12, s.R15, s.A15, s.W15, s.R16, s.A16, s.W16, b1_some, b2_some, litI, neg1, nI_add, nI_mul, e1_p1, nI_e0, ib, ib1, ite_not, if_true, if_false, not_true_eq_false, not_false_eq_true, setI_hv, le_lit, show ¬ 48 ≤ c by omega, z1, z2, z3, u2_n, u2_e, z, eq_lit, dg]
    · have dg : dGn S i c = S.2 11 c := if_neg z
      simp (decide := true) (disch := omega) only [B_X10_days_50, gd_hv s.1, gI_hv s.1, pI_hv s.1, s.R10, s.A10, s.W10, s.R11, s.A11, s.W11, s.R12, s.A12, s.W12, s.R15, s.A15, s.W15, s.R16, s.A16, s.W16, b1_some, b2_some, litI, neg1, nI_add, nI_mul, e1_p1, nI_e0, ib, ib1, ite_not, if_true, if_false, not_true_eq_false, not_false_eq_true, setI_hv, le_lit, show ¬ 48 ≤ c by omega, z1, z2, z3, u2_n, u2_e, z, eq_lit, dg])
  have fin : RepM M (hv σ (fy (fy (fy F (M + 7) 48 (fun k => nI (dKn S i k))) (M + 9) 48 (fun k => nI (dWn S i k))) (M + 8) 48 (fun k => e1 (dGn S i k)))) (wA (wA (wA S 10 (dKn S i)) 12 (dWn S i)) 11 (dGn S i)) :=
    ((h0.fy (10, 7, 48) (by decide) (dKn S i) _ rfl).fy (12, 9, 48) (by decide) (dWn S i) _ rfl).fy (11, 8, 48) (by decide) (dGn S i) _ rfl
  have e50 : L_X10_days_50 M (nI i) FU (hv σ (fy (fy (fy F (M + 7) 0 (fun k => nI (dKn S i k))) (M + 9) 0 (fun k => nI (dWn S i k))) (M + 8) 0 (fun k => e1 (dGn S i k))), nI 0) = some (nI (S.1 0 + i), hv σ (u2 (fy (fy (fy F (M + 7) 48 (fun k => nI (dKn S i k))) (M + 9) 48 (fun k => nI (dWn S i k))) (M + 8) 48 (fun k => e1 (dGn S i k))) M 0 (nI (S.1 0 + i)))) := by
    refine hr'.trans ?_
    have e0 : fy (fy (fy F (M + 7) 48 (fun k => nI (dKn S i k))) (M + 9) 48 (fun k => nI (dWn S i k))) (M + 8) 48 (fun k => e1 (dGn S i k)) M 0 = nI (S.1 0) := fin.s0
    simp (decide := true) (disch := omega) only [B_X10_days_50, F_X10_days_111, gd_hv s.1, gI_hv s.1, pI_hv s.1, b1_some, b2_some, litI, neg1, nI_add, nI_mul, e1_p1, nI_e0, ib, ib1, ite_not, if_true, if_false, not_true_eq_false, not_false_eq_true, setI_hv, le_lit, Nat.le_refl, e0, u2_e]
  rw [fy_0, fy_0, fy_0] at e50
  have e31 : L_X10_days_31 M (nI i) FU (hv σ (fz (fz f (M + 12) 48 (S.2 10)) (M + 13) 48 (S.2 12)), nI 0) = some (nI (S.1 0 + i), hv σ (u2 (fy (fy (fy F (M + 7) 48 (fun k => nI (dKn S i k))) (M + 9) 48 (fun k => nI (dWn S i k))) (M + 8) 48 (fun k => e1 (dGn S i k))) M 0 (nI (S.1 0 + i)))) := by
    refine hr.trans ?_
    simp (decide := true) (disch := omega) only [B_X10_days_31, b1_some, b2_some, litI, neg1, nI_add, nI_mul, e1_p1, nI_e0, ib, ib1, ite_not, if_true, if_false, not_true_eq_false, not_false_eq_true, setI_hv, le_lit, Nat.le_refl, e50]
  simp (decide := true) (disch := omega) only [gd_hv s.1, gI_hv s.1, pI_hv s.1, b1_some, b2_some, litI, neg1, nI_add, nI_mul, e1_p1, nI_e0, ib, ib1, ite_not, if_true, if_false, not_true_eq_false, not_false_eq_true, setI_hv, qi, h.s0, le_lit, q, cl_I, m_look g h, e31]
  refine ⟨_, rfl, fin.setS 0 (S.1 0 + i), fun a k ha => ?_⟩
  rw [u2_n (by omega), fy_off (by omega), fy_off (by omega), fy_off (by omega), off a k (by omega) (by omega)]
