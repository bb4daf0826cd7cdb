set_option maxRecDepth 100000
/-! pure law 16: count -/
def ghs (S : St) : Nat := sumR (fun c => if S.2 11 c = 0 then 0 else 1) 0 48
def sts (T K : Nat → Nat) : Nat := sumR (fun c => if T c = 0 then 0 else K c) 0 48
def std (S : St) : Nat := sumR (fun r => stn (S.2 9) r) 0 8
def oCount (w : Int32) (S : St) : Int32 × St := (if w = nI 0 then nI (S.1 0) else if w = nI 1 then nI (S.1 1) else if w = nI 2 then nI (std S) else if w = nI 3 then nI (ghs S) else if w = nI 4 then nI (sts (S.2 9) (S.2 10)) else if w = nI 5 then nI (S.1 19) else if w = nI 6 then nI (S.1 29) else -3, S)
theorem m_std {M : Nat} {σ : Hp} {f : Nat → Nat → Int32} {S : St} (g : Good S) (h : RepM M (hv σ f) S) : L_X10_count_56 M FU (hv σ f, nI 0, nI 0) = some (nI (std S), hv σ f) := by
  unfold L_X10_count_56
  obtain ⟨m, hm⟩ := it_FU (body := fun rec st => B_X10_count_56 M rec st.1 st.2.1 st.2.2) (fun i => (hv σ f, nI (sumR (fun r => stn (S.2 9) r) 0 i), nI i)) 0 8 (by omega) (by omega) (fun i _ hi rec => by
    show B_X10_count_56 M rec (hv σ f) (nI (sumR (fun r => stn (S.2 9) r) 0 i)) (nI i) = rec (hv σ f, nI (sumR (fun r => stn (S.2 9) r) 0 i + stn (S.2 9) (0 + i)), nI (i + 1))
    simp (decide := true) (disch := omega) only [B_X10_count_56, b1_some, b2_some, litI, neg1, nI_add, nI_mul, e1_p1, nI_e0, ib, ib1, ite_not, if_true, if_false, not_true_eq_false, not_false_eq_true, setI_hv, le_lit, show ¬ 8 ≤ i by omega, m_stand g h, Nat.zero_add])
  refine hm.trans ?_
  simp (decide := true) (disch := omega) only [B_X10_count_56, b1_some, b2_some, litI, neg1, nI_add, nI_mul, e1_p1, nI_e0, ib, ib1, ite_not, if_true, if_false, not_true_eq_false, not_false_eq_true, setI_hv, le_lit, Nat.le_refl]
  rfl
theorem m_ghs {M : Nat} {σ : Hp} {f : Nat → Nat → Int32} {S : St} (g : Good S) (h : RepM M (hv σ f) S) : L_X10_count_80 (hv σ f) M FU (nI 0, nI 0) = some (nI (ghs S), hv σ f) := by
  have s : SM M σ := h.1
  unfold L_X10_count_80
  obtain ⟨m, hm⟩ := it_FU (body := fun rec st => B_X10_count_80 (hv σ f) M rec st.1 st.2) (fun i => (nI (sumR (fun c => if S.2 11 c = 0 then 0 else 1) 0 i), nI i)) 0 48 (by omega) (by omega) (fun i _ hi rec => by
    have b := g.cn hi
    show B_X10_count_80 (hv σ f) M rec (nI (sumR (fun c => if S.2 11 c = 0 then 0 else 1) 0 i)) (nI i) = rec (nI (sumR (fun c => if S.2 11 c = 0 then 0 else 1) 0 i + if S.2 11 (0 + i) = 0 then 0 else 1), nI (i + 1))
    rw [Nat.zero_add]
    by_cases q : S.2 11 i = 0
    · simp (decide := true) (disch := omega) only [B_X10_count_80, gd_hv s.1, gI_hv s.1, pI_hv s.1, s.R11, s.A11, s.W11, b1_some, b2_some, litI, neg1, nI_add, nI_mul, e1_p1, nI_e0, ib, ib1, ite_not, if_true, if_false, not_true_eq_false, not_false_eq_true, setI_hv, le_lit, show ¬ 48 ≤ i by omega, h.a11, e1_inj, q]
    · simp (decide := true) (disch := omega) only [B_X10_count_80, gd_hv s.1, gI_hv s.1, pI_hv s.1, s.R11, s.A11, s.W11, b1_some, b2_some, litI, neg1, nI_add, nI_mul, e1_p1, nI_e0, ib, ib1, ite_not, if_true, if_false, not_true_eq_false, not_false_eq_true, setI_hv, le_lit, show ¬ 48 ≤ i by omega, h.a11, e1_inj, q])
  refine hm.trans ?_
  simp (decide := true) (disch := omega) only [B_X10_count_80, b1_some, b2_some, litI, neg1, nI_add, nI_mul, e1_p1, nI_e0, ib, ib1, ite_not, if_true, if_false, not_true_eq_false, not_false_eq_true, setI_hv, le_lit, Nat.le_refl]
  rfl
theorem m_sts {M : Nat} {σ : Hp} {f : Nat → Nat → Int32} {S : St} (g : Good S) (h : RepM M (hv σ f) S) : L_X10_count_114 (hv σ f) M FU (nI 0, nI 0) = some (nI (sts (S.2 9) (S.2 10)), hv σ f) := by
  have s : SM M σ := h.1
  unfold L_X10_count_114
  obtain ⟨m, hm⟩ := it_FU (body := fun rec st => B_X10_count_114 (hv σ f) M rec st.1 st.2) (fun i => (nI (sumR (fun c => if S.2 9 c = 0 then 0 else S.2 10 c) 0 i), nI i)) 0 48 (by omega) (by omega) (fun i _ hi rec => by
    have b := g.cn hi
    show B_X10_count_114 (hv σ f) M rec (nI (sumR (fun c => if S.2 9 c = 0 then 0 else S.2 10 c) 0 i)) (nI i) = rec (nI (sumR (fun c => if S.2 9 c = 0 then 0 else S.2 10 c) 0 i + if S.2 9 (0 + i) = 0 then 0 else S.2 10 (0 + i)), nI (i + 1))
    rw [Nat.zero_add]
    by_cases q : S.2 9 i = 0
    · simp (decide := true) (disch := omega) only [B_X10_count_114, gd_hv s.1, gI_hv s.1, pI_hv s.1, s.R9, s.A9, s.W9, s.R10, s.A10, s.W10, b1_some, b2_some, litI, neg1, nI_add, nI_mul, e1_p1, nI_e0, ib, ib1, ite_not, if_true, if_false, not_true_eq_false, not_false_eq_true, setI_hv, le_lit, show ¬ 48 ≤ i by omega, h.a9, e1_inj, q]
    · simp (decide := true) (disch := omega) only [B_X10_count_114, gd_hv s.1, gI_hv s.1, pI_hv s.1, s.R9, s.A9, s.W9, s.R10, s.A10, s.W10, b1_some, b2_some, litI, neg1, nI_add, nI_mul, e1_p1, nI_e0, ib, ib1, ite_not, if_true, if_false, not_true_eq_false, not_false_eq_true, setI_hv, le_lit, show ¬ 48 ≤ i by omega, h.a9, h.a10, e1_inj, q])
  refine hm.trans ?_
  simp (decide := true) (disch := omega) only [B_X10_count_114, b1_some, b2_some, litI, neg1, nI_add, nI_mul, e1_p1, nI_e0, ib, ib1, ite_not, if_true, if_false, not_true_eq_false, not_false_eq_true, setI_hv, le_lit, Nat.le_refl]
  rfl
theorem m_count (M : Nat) (w : Int32) : OkMf M (fun σ => F_X10_count σ M w) (oCount w) := by
  intro σ f S g h
  have s : SM M σ := h.1
  refine ⟨f, ?_, h, fun _ _ _ => rfl⟩
  simp (decide := true) (disch := omega) only [F_X10_count, oCount, gd_hv s.1, gI_hv s.1, pI_hv s.1, b1_some, b2_some, litI, neg1, nI_add, nI_mul, e1_p1, nI_e0, ib, ib1, ite_not, if_true, if_false, not_true_eq_false, not_false_eq_true, setI_hv, m_std g h, m_ghs g h, m_sts g h, h.s0, h.s1, h.s19, h.s29]
  repeat' split
  all_goals rfl
theorem x_std {N : Nat} {σ : Hp} {f : Nat → Nat → Int32} {S : St} (g : Good S) (h : RepX N (hv σ f) S) : L_X0_count_56 N FU (hv σ f, nI 0, nI 0) = some (nI (std S), hv σ f) := by
  have s : SX N σ := h.1
  unfold L_X0_count_56
  obtain ⟨m, hm⟩ := it_FU (body := fun rec st => B_X0_count_56 N rec st.1 st.2.1 st.2.2) (fun i => (hv σ f, nI (sumR (fun r => stn (S.2 9) r) 0 i), nI i)) 0 8 (by omega) (by omega) (fun i _ hi rec => by
    show B_X0_count_56 N rec (hv σ f) (nI (sumR (fun r => stn (S.2 9) r) 0 i)) (nI i) = rec (hv σ f, nI (sumR (fun r => stn (S.2 9) r) 0 i + stn (S.2 9) (0 + i)), nI (i + 1))
    simp (decide := true) (disch := omega) only [B_X0_count_56, gd_hv s.t0, gI_hv s.t0, pI_hv s.t0, s.R7, b1_some, b2_some, litI, neg1, nI_add, nI_mul, e1_p1, nI_e0, ib, ib1, ite_not, if_true, if_false, not_true_eq_false, not_false_eq_true, setI_hv, le_lit, show ¬ 8 ≤ i by omega, x_held s.h12 h.hd g.hb, Nat.zero_add])
  refine hm.trans ?_
  simp (decide := true) (disch := omega) only [B_X0_count_56, b1_some, b2_some, litI, neg1, nI_add, nI_mul, e1_p1, nI_e0, ib, ib1, ite_not, if_true, if_false, not_true_eq_false, not_false_eq_true, setI_hv, le_lit, Nat.le_refl]
  rfl
theorem x_ghs {N : Nat} {σ : Hp} {f : Nat → Nat → Int32} {S : St} (g : Good S) (h : RepX N (hv σ f) S) : L_X0_count_83 N FU (hv σ f, nI 0, nI 0) = some (nI (ghs S), hv σ f) := by
  have s : SX N σ := h.1
  unfold L_X0_count_83
  obtain ⟨m, hm⟩ := it_FU (body := fun rec st => B_X0_count_83 N rec st.1 st.2.1 st.2.2) (fun i => (hv σ f, nI (sumR (fun c => if S.2 11 c = 0 then 0 else 1) 0 i), nI i)) 0 48 (by omega) (by omega) (fun i _ hi rec => by
    have b := g.cn hi
    have gh := s.h12.ghost (f := f) hi (by omega : S.2 11 i < 1000) (by omega : S.2 12 i < 1000) (h.a11 hi) (h.a12 hi)
    show B_X0_count_83 N rec (hv σ f) (nI (sumR (fun c => if S.2 11 c = 0 then 0 else 1) 0 i)) (nI i) = rec (hv σ f, nI (sumR (fun c => if S.2 11 c = 0 then 0 else 1) 0 i + if S.2 11 (0 + i) = 0 then 0 else 1), nI (i + 1))
    rw [Nat.zero_add]
    by_cases q : S.2 11 i = 0
    · simp (decide := true) (disch := omega) only [B_X0_count_83, gd_hv s.t0, gI_hv s.t0, pI_hv s.t0, s.R7, s.R12_0, s.C12, s.h12.CD, s.h12.CI, s.h12.CW, s.h12.G, s.h12.GD, s.h12.GI, s.h12.GW, gh, b1_some, b2_some, litI, neg1, nI_add, nI_mul, e1_p1, nI_e0, ib, ib1, ite_not, if_true, if_false, not_true_eq_false, not_false_eq_true, setI_hv, le_lit, show ¬ 48 ≤ i by omega, q, ne_eq, false_and]
    · have q2 : ¬ S.2 12 i = 0 := by omega
      simp (decide := true) (disch := omega) only [B_X0_count_83, gd_hv s.t0, gI_hv s.t0, pI_hv s.t0, s.R7, s.R12_0, s.C12, s.h12.CD, s.h12.CI, s.h12.CW, s.h12.G, s.h12.GD, s.h12.GI, s.h12.GW, gh, b1_some, b2_some, litI, neg1, nI_add, nI_mul, e1_p1, nI_e0, ib, ib1, ite_not, if_true, if_false, not_true_eq_false, not_false_eq_true, setI_hv, le_lit, eq_lit, show ¬ 48 ≤ i by omega, q, q2, ne_eq, and_self])
  refine hm.trans ?_
  simp (decide := true) (disch := omega) only [B_X0_count_83, b1_some, b2_some, litI, neg1, nI_add, nI_mul, e1_p1, nI_e0, ib, ib1, ite_not, if_true, if_false, not_true_eq_false, not_false_eq_true, setI_hv, le_lit, Nat.le_refl]
  rfl
theorem x_sts {N H : Nat} {σ : Hp} {f : Nat → Nat → Int32} {T K G W : Nat → Nat} (hs : HS N H σ) (hd : HD H f T K G W) (hb : HB T K G W) : F_X1_strength (hv σ f) H = some (nI (sts T K), hv σ f) := by
  have e0 : L_X1_strength_13 (H + 1) (nI 48) FU (hv σ f, nI 0, nI 0) = some (nI (sts T K), hv σ f) := by
    unfold L_X1_strength_13
    obtain ⟨m, hm⟩ := it_FU (body := fun rec st => B_X1_strength_13 (H + 1) (nI 48) rec st.1 st.2.1 st.2.2) (fun i => (hv σ f, nI (sumR (fun c => if T c = 0 then 0 else K c) 0 i), nI i)) 0 48 (by omega) (by omega) (fun i _ hi rec => by
      have b := hb i hi
      have d := hd i hi
      have th := hs.there (f := f) hi (by omega : T i < 1000) d.1
      show B_X1_strength_13 (H + 1) (nI 48) rec (hv σ f) (nI (sumR (fun c => if T c = 0 then 0 else K c) 0 i)) (nI i) = rec (hv σ f, nI (sumR (fun c => if T c = 0 then 0 else K c) 0 i + if T (0 + i) = 0 then 0 else K (0 + i)), nI (i + 1))
      rw [Nat.zero_add]
      by_cases q : T i = 0
      · simp (decide := true) (disch := omega) only [B_X1_strength_13, hs.D, hs.R0, hs.R1, hs.N, hs.C, hs.CD, hs.CI, hs.CW, hs.G, hs.GD, hs.GI, hs.GW, th, b1_some, b2_some, litI, neg1, nI_add, nI_mul, e1_p1, nI_e0, ib, ib1, ite_not, if_true, if_false, not_true_eq_false, not_false_eq_true, setI_hv, le_lit, show ¬ 48 ≤ i by omega, q, ne_eq]
      · simp (decide := true) (disch := omega) only [B_X1_strength_13, hs.D, hs.R0, hs.R1, hs.N, hs.C, hs.CD, hs.CI, hs.CW, hs.G, hs.GD, hs.GI, hs.GW, th, b1_some, b2_some, litI, neg1, nI_add, nI_mul, e1_p1, nI_e0, ib, ib1, ite_not, if_true, if_false, not_true_eq_false, not_false_eq_true, setI_hv, le_lit, eq_lit, show ¬ 48 ≤ i by omega, q, ne_eq, d.2.1])
    refine hm.trans ?_
    simp (decide := true) (disch := omega) only [B_X1_strength_13, b1_some, b2_some, litI, neg1, nI_add, nI_mul, e1_p1, nI_e0, ib, ib1, ite_not, if_true, if_false, not_true_eq_false, not_false_eq_true, setI_hv, le_lit, Nat.le_refl]
    rfl
  simp (decide := true) (disch := omega) only [F_X1_strength, hs.D, hs.R0, hs.R1, hs.N, hs.C, hs.CD, hs.CI, hs.CW, hs.G, hs.GD, hs.GI, hs.GW, b1_some, b2_some, litI, neg1, nI_add, nI_mul, e1_p1, nI_e0, ib, ib1, ite_not, if_true, if_false, not_true_eq_false, not_false_eq_true, setI_hv, e0]
theorem x_count (N : Nat) (w : Int32) : OkXf N (fun σ => F_X0_count σ N w) (oCount w) := by
  intro σ f S g h
  have s : SX N σ := h.1
  refine ⟨f, ?_, h, fun _ _ _ => rfl⟩
  simp (decide := true) (disch := omega) only [F_X0_count, oCount, gd_hv s.t0, gI_hv s.t0, pI_hv s.t0, s.R7, b1_some, b2_some, litI, neg1, nI_add, nI_mul, e1_p1, nI_e0, ib, ib1, ite_not, if_true, if_false, not_true_eq_false, not_false_eq_true, setI_hv, x_std g h, x_ghs g h, x_sts s.h12 h.hd g.hb, h.s0, h.s1, h.s19, h.s29]
  repeat' split
  all_goals rfl
