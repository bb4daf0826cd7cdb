set_option maxRecDepth 100000
/-! pure law 30: the best plan -/
theorem e1_le {a b : Nat} (ha : a < 2147483648) (hb : b < 2147483648) : (e1 a ≤ e1 b) = (a ≤ b) := by
  apply propext
  rw [Int32.le_iff_toInt_le, e1_toInt ha, e1_toInt hb]
  omega
noncomputable def svp (S : St) (x : Int32) (n k : Nat) : Nat := sbv S x (dgb 9 n k) n
def btp (o v : Nat) : Bool := decide (o < v)
theorem btp_t {o v : Nat} : (btp o v = true) = (o < v) := by
  unfold btp
  exact propext decide_eq_true_iff
noncomputable def pk (S : St) (x : Int32) (n : Nat) : Nat → Nat × Nat := fo btp (svp S x n)
theorem pk_s (S : St) (x : Int32) (n P : Nat) : pk S x n (P + 1) = if (pk S x n P).1 < svp S x n P then (svp S x n P, P + 1) else pk S x n P := by
  show (if btp (pk S x n P).1 (svp S x n P) = true then _ else _) = _
  by_cases q : (pk S x n P).1 < svp S x n P
  · rw [if_pos (btp_t ▸ q), if_pos q]
  · rw [if_neg (fun z => q (btp_t ▸ z)), if_neg q]
    rfl
theorem pk_b {S : St} (g : Good S) (x : Int32) (n P : Nat) : (pk S x n P).1 ≤ 4801 := fo_b (fun k => sbv_le g x _ n) P
theorem pkn_le (S : St) (x : Int32) (n P : Nat) : (pk S x n P).2 ≤ P := fo_le _ _ P
theorem pk_z (S : St) (x : Int32) (n : Nat) : ∀ P, (pk S x n P).2 = 0 → (pk S x n P).1 = 0
  | 0, _ => rfl
  | P + 1, h => by
    rw [pk_s] at h ⊢
    by_cases q : (pk S x n P).1 < svp S x n P
    · rw [if_pos q] at h
      cases h
    · rw [if_neg q] at h ⊢
      exact pk_z S x n P h
theorem dg8 : ∀ n, n < 5 → ∀ j, j < n → dgb 9 n (9 ^ n - 1) j = 8 := by decide
theorem p9 : ∀ n, n < 5 → 1 ≤ 9 ^ n ∧ 9 ^ n ≤ 6561 := by decide
theorem pk_full (S : St) (x : Int32) {n : Nat} (hn : n ≤ 4) : (pk S x n (9 ^ n)).2 ≠ 0 := by
  intro h
  have z := pk_z S x n _ h
  have p := p9 n (by omega)
  have e : 9 ^ n = 9 ^ n - 1 + 1 := by omega
  have v : 1 ≤ svp S x n (9 ^ n - 1) := by
    unfold svp sbv
    rw [if_pos (fun k hk => Or.inl (dg8 n (by omega) k hk))]
    omega
  rw [e, pk_s] at h z
  by_cases q : (pk S x n (9 ^ n - 1)).1 < svp S x n (9 ^ n - 1)
  · rw [if_pos q] at h
    cases h
  · rw [if_neg q] at z
    omega
noncomputable def oPlan (n x w : Int32) (S : St) : Int32 × St := if inR n 1 4 ∧ amn n.toNatClampNeg x ∧ (-1 ≤ w ∧ w ≤ n - 1) then (if w = -1 then e1 (pk S x n.toNatClampNeg (9 ^ n.toNatClampNeg)).1 else nI (dgb 9 n.toNatClampNeg ((pk S x n.toNatClampNeg (9 ^ n.toNatClampNeg)).2 - 1) w.toNatClampNeg), S) else (-3, S)
theorem w_in {w : Int32} {i : Nat} (hi : i ≤ 8) (h : -1 ≤ w ∧ w ≤ nI i - 1) : ∃ j, j ≤ i ∧ w = e1 j := by
  have h1 := Int32.le_iff_toInt_le.mp h.1
  have h2 := Int32.le_iff_toInt_le.mp h.2
  have e : nI i - 1 = e1 i := rfl
  rw [e, e1_toInt (by omega)] at h2
  rw [m1_toInt] at h1
  refine ⟨(w.toInt + 1).toNat, by omega, ?_⟩
  rw [← Int32.toInt_inj, e1_toInt (by omega)]
  omega
/-! the component -/
theorem x_layPlan {N : Nat} {σ : Hp} {f : Nat → Nat → Int32} (s : SX N σ) {n k : Nat} (hn : n ≤ 4) (hk : k < 10000) : ∃ f', F_X0_layPlan (hv σ f) N (nI k) (nI n) = some (hv σ f') ∧ (∀ j, j < n → f' (N + 230) j = nI (dgb 9 n k j)) ∧ ∀ a j, a ≠ N + 230 → f' a j = f a j := by
  unfold F_X0_layPlan L_X0_layPlan_7
  rw [gd_hv s.t0]
  obtain ⟨st, r, ⟨f', es, p1, p2⟩, e⟩ := it_invF (body := fun rec st => B_X0_layPlan_7 N rec st.1 st.2.1 st.2.2) (fun t st => ∃ f', st = (hv σ f', nI (k / 9 ^ t), e1 (n - t)) ∧ (∀ j, n - t ≤ j → j < n → f' (N + 230) j = nI (dgb 9 n k j)) ∧ ∀ a j, a ≠ N + 230 → f' a j = f a j) 0 n (by omega) (by omega) (fun t st _ ht hp => by
    obtain ⟨f1, rfl, p1, p2⟩ := hp
    have kl : k / 9 ^ t ≤ k := Nat.div_le_self _ _
    have e9 : k / 9 ^ (t + 1) = k / 9 ^ t / 9 := by rw [Nat.pow_succ, Nat.div_div_eq_div_mul]
    have dg : dgb 9 n k (n - t - 1) = k / 9 ^ t % 9 := by
      unfold dgb
      rw [show n - 1 - (n - t - 1) = t by omega]
    have d1 : nI (k / 9 ^ t) / nI 9 = nI (k / 9 ^ t / 9) := pk_div (by omega) (by omega) (by omega)
    have d2 : nI (k / 9 ^ t) - nI (k / 9 ^ t / 9 * 9) = nI (k / 9 ^ t % 9) := by
      rw [nI_sub (by omega)]
      exact congrArg nI (by omega)
    refine ⟨_, ⟨u2 f1 (N + 230) (n - t - 1) (nI (k / 9 ^ t % 9)), rfl, fun j h1 h2 => ?_, fun a j ha => (u2_n (by omega)).trans (p2 a j ha)⟩, fun rec => ?_⟩
    · by_cases q : j = n - t - 1
      · subst q
        rw [u2_e, dg]
      · rw [u2_n (by omega)]
        exact p1 j (by omega) h2
    · rw [e9, e1_of (by omega : 0 < n - t), show n - (t + 1) = n - t - 1 by omega]
      generalize k / 9 ^ t = K at d1 d2 kl
      simp (decide := true) (disch := omega) only [B_X0_layPlan_7, gd_hv s.t0, gI_hv s.t0, pI_hv s.t0, s.R19, s.A230, s.W230, b1_some, b2_some, litI, neg1, nI_add, nI_mul, e1_p1, nI_e0, ib, ib1, ite_not, if_true, if_false, not_true_eq_false, not_false_eq_true, setI_hv, lt_lit, show ¬ n - t - 1 < 0 by omega, d1, d2, nI_e]) (hv σ f, nI k, e1 n) ⟨f, by rw [Nat.pow_zero, Nat.div_one]; rfl, fun j h1 h2 => by omega, fun _ _ _ => rfl⟩
  subst es
  refine ⟨f', e.trans ?_, fun j hj => p1 j (by omega) hj, p2⟩
  rw [Nat.sub_self]
  simp (decide := true) (disch := omega) only [B_X0_layPlan_7, b1_some, b2_some, litI, neg1, nI_add, nI_mul, e1_p1, nI_e0, ib, ib1, ite_not, if_true, if_false, not_true_eq_false, not_false_eq_true, setI_hv, e1_lt, Nat.le_refl]
theorem x_plan (N : Nat) (n x w : Int32) : OkXf N (fun σ => F_X0_plan σ N n x w) (oPlan n x w) := by
  intro σ f S g h
  have s : SX N σ := h.1
  rcases in_split n 1 4 (by omega) (by omega) with ⟨i, h1, hi, rfl⟩ | hk
  case inr =>
    have e : oPlan n x w S = (-3, S) := if_neg (fun z => hk z.1)
    rw [e]
    refine ⟨f, ?_, h, fun _ _ _ => rfl⟩
    show F_X0_plan (hv σ f) N n x w = some (-3, hv σ f)
    unfold F_X0_plan
    rw [gd_hv s.t0, x_mins0 hk, b2_some]
    rfl
  by_cases qa : amn i x
  case neg =>
    have e : oPlan (nI i) x w S = (-3, S) := if_neg (fun z => qa (by have := z.2.1; rw [cl_I (by omega)] at this; exact this))
    rw [e]
    refine ⟨f, ?_, h, fun _ _ _ => rfl⟩
    show F_X0_plan (hv σ f) N (nI i) x w = some (-3, hv σ f)
    unfold F_X0_plan
    rw [gd_hv s.t0, x_mins h1 hi, if_neg qa, b2_some]
    rfl
  have wi : ∀ σ', F_X0_isIn σ' w.toInt64 (-1) (nI i - 1).toInt64 = some (if -1 ≤ w ∧ w ≤ nI i - 1 then 1 else 0, σ') := fun σ' => by
    have := x0_isIn σ' w (-1) (nI i - 1)
    exact this
  by_cases qw : -1 ≤ w ∧ w ≤ nI i - 1
  case neg =>
    have e : oPlan (nI i) x w S = (-3, S) := if_neg (fun z => qw z.2.2)
    rw [e]
    refine ⟨f, ?_, h, fun _ _ _ => rfl⟩
    show F_X0_plan (hv σ f) N (nI i) x w = some (-3, hv σ f)
    unfold F_X0_plan
    rw [gd_hv s.t0, x_mins h1 hi, if_pos qa, b2_some]
    rw [if_neg (by decide : ¬ nI 1 = 0), wi, if_neg qw, b2_some]
    rfl
  obtain ⟨f2, c1, c2, c3⟩ := x_costs g h
  have h2 : RepX N (hv σ f2) S := h.sx (fun a k ha => c3 a k (ha 231 (by omega)))
  have p := p9 i (by omega)
  obtain ⟨m, hm⟩ := it_FU (body := fun rec st => B_X0_plan_36 (hv σ f2) N (nI i) x w rec st.1 st.2) (fun k => (nI (9 ^ k), nI k)) 0 i (by omega) (by omega) (fun k _ hk rec => by
    show B_X0_plan_36 (hv σ f2) N (nI i) x w rec (nI (9 ^ k)) (nI k) = rec (nI (9 ^ k * 9), nI (k + 1))
    simp (decide := true) (disch := omega) only [B_X0_plan_36, b1_some, b2_some, litI, neg1, nI_add, nI_mul, e1_p1, nI_e0, ib, ib1, ite_not, if_true, if_false, not_true_eq_false, not_false_eq_true, setI_hv, le_lit, show ¬ i ≤ k by omega])
  have L0 : F_X0_plan (hv σ f) N (nI i) x w = F_X0_plan_55 (hv σ f2) N (nI i) x w (nI (9 ^ i)) := by
    unfold F_X0_plan
    rw [gd_hv s.t0, x_mins h1 hi, if_pos qa, b2_some]
    rw [if_neg (by decide : ¬ nI 1 = 0), wi, if_pos qw, b2_some]
    show b1 (F_X0_layCosts (hv σ f) N) _ = _
    rw [c1, b1_some]
    refine Eq.trans hm ?_
    simp (decide := true) (disch := omega) only [B_X0_plan_36, b1_some, b2_some, litI, neg1, nI_add, nI_mul, e1_p1, nI_e0, ib, ib1, ite_not, if_true, if_false, not_true_eq_false, not_false_eq_true, setI_hv, le_lit, Nat.le_refl]
  obtain ⟨st, r, ⟨f', es, p1, p2⟩, e⟩ := it_invF (body := fun rec st => B_X0_plan_64 N (nI i) x w (nI (9 ^ i)) rec st.1 st.2.1 st.2.2.1 st.2.2.2) (fun k st => ∃ f', st = (hv σ f', e1 (pk S x i k).2, e1 (pk S x i k).1, nI k) ∧ (∀ r, r < 8 → f' (N + 231) r = e1 (cst S r)) ∧ ∀ a j, (∀ o, (110 ≤ o ∧ o < 208) ∨ o = 230 → a ≠ N + o) → f' a j = f2 a j) 0 (9 ^ i) (by omega) (by omega) (fun k st _ hk hq => by
    obtain ⟨f1, rfl, p1, p2⟩ := hq
    have r1 : RepX N (hv σ f1) S := h2.sx (fun a k ha => p2 a k (fun o ho => ha o (by omega)))
    obtain ⟨f3, l1, l2, l3⟩ := x_layPlan (f := f1) s (n := i) (k := k) hi (by omega)
    have r3 : RepX N (hv σ f3) S := r1.sx (fun a k ha => l3 a k (ha 230 (by omega)))
    obtain ⟨f4, s1, s2⟩ := x_sb g r3 (n := i) (x := x) (p := dgb 9 i k) hi (fun j hj => ⟨by have := dgb_lt (n := i) (k := k) (i := j) (by omega : 0 < 9); omega, l2 j hj⟩) (fun r hr => (l3 _ _ (by omega)).trans (p1 r hr))
    have b1' := pk_b g x i k
    have b2' := sbv_le g x (dgb 9 i k) i
    refine ⟨_, ⟨f4, rfl, fun r hr => ?_, fun a j ha => ?_⟩, fun rec => ?_⟩
    · exact ((s2 _ _ (fun o _ _ => by omega)).trans (l3 _ _ (by omega))).trans (p1 r hr)
    · exact ((s2 a j (fun o h1 h2 => ha o (by omega))).trans (l3 a j (ha 230 (by omega)))).trans (p2 a j ha)
    · rw [pk_s]
      have ev : svp S x i k = sbv S x (dgb 9 i k) i := rfl
      rw [ev]
      by_cases q : (pk S x i k).1 < sbv S x (dgb 9 i k) i
      · rw [if_pos q]
        simp (decide := true) (disch := omega) only [B_X0_plan_64, b1_some, b2_some, litI, neg1, nI_add, nI_mul, e1_p1, nI_e0, ib, ib1, ite_not, if_true, if_false, not_true_eq_false, not_false_eq_true, setI_hv, le_lit, e1_le, show ¬ 9 ^ i ≤ k by omega, l1, s1, show ¬ sbv S x (dgb 9 i k) i ≤ (pk S x i k).1 by omega, e1_s]
      · rw [if_neg q]
        simp (decide := true) (disch := omega) only [B_X0_plan_64, b1_some, b2_some, litI, neg1, nI_add, nI_mul, e1_p1, nI_e0, ib, ib1, ite_not, if_true, if_false, not_true_eq_false, not_false_eq_true, setI_hv, le_lit, e1_le, show ¬ 9 ^ i ≤ k by omega, l1, s1, show sbv S x (dgb 9 i k) i ≤ (pk S x i k).1 by omega]) (hv σ f2, e1 0, e1 0, nI 0) ⟨f2, rfl, c2, fun _ _ _ => rfl⟩
  subst es
  have pf := pk_full S x hi
  have pl := pkn_le S x i (9 ^ i)
  obtain ⟨f3, l1, l2, l3⟩ := x_layPlan (f := f') s (n := i) (k := (pk S x i (9 ^ i)).2 - 1) hi (by omega)
  have r1 : RepX N (hv σ f') S := h2.sx (fun a k ha => p2 a k (fun o ho => ha o (by omega)))
  have r3 : RepX N (hv σ f3) S := r1.sx (fun a k ha => l3 a k (ha 230 (by omega)))
  obtain ⟨j, hj, ew⟩ := w_in (by omega) qw
  have L1 : F_X0_plan (hv σ f) N (nI i) x w = F_X0_plan_107 (hv σ f') N (nI i) w (e1 (pk S x i (9 ^ i)).2) (e1 (pk S x i (9 ^ i)).1) := by
    rw [L0]
    unfold F_X0_plan_55
    refine Eq.trans e ?_
    simp (decide := true) (disch := omega) only [B_X0_plan_64, b1_some, b2_some, litI, neg1, nI_add, nI_mul, e1_p1, nI_e0, ib, ib1, ite_not, if_true, if_false, not_true_eq_false, not_false_eq_true, setI_hv, le_lit, Nat.le_refl]
  have eo : oPlan (nI i) x w S = (if w = -1 then e1 (pk S x i (9 ^ i)).1 else nI (dgb 9 i ((pk S x i (9 ^ i)).2 - 1) w.toNatClampNeg), S) := by
    unfold oPlan
    rw [cl_I (by omega)]
    exact if_pos ⟨inR_of h1 hi (by omega), qa, qw⟩
  rw [eo]
  refine ⟨f3, ?_, r3, fun a k ha => ((l3 a k (by omega)).trans (p2 a k (fun o ho => by omega))).trans (c3 a k (by omega))⟩
  show F_X0_plan (hv σ f) N (nI i) x w = _
  rw [L1, e1_of (by omega)]
  by_cases z : j = 0
  · rw [ew, z]
    simp (decide := true) (disch := omega) only [F_X0_plan_107, b1_some, b2_some, litI, neg1, nI_add, nI_mul, e1_p1, nI_e0, ib, ib1, ite_not, if_true, if_false, not_true_eq_false, not_false_eq_true, setI_hv, l1]
  · rw [ew, e1_of (by omega)]
    have e5 := l2 (j - 1) (by omega)
    simp (decide := true) (disch := omega) only [F_X0_plan_107, gd_hv s.t0, gI_hv s.t0, pI_hv s.t0, s.R19, s.A230, s.W230, b1_some, b2_some, litI, neg1, nI_add, nI_mul, e1_p1, nI_e0, ib, ib1, ite_not, if_true, if_false, not_true_eq_false, not_false_eq_true, setI_hv, l1, e5, cl_I]
