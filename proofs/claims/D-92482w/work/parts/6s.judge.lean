set_option maxRecDepth 100000
/-! pure law 28: the twin's days of a plan; judge -/
theorem fz_com {f : Nat → Nat → Int32} {A B n m : Nat} {D E : Nat → Nat} (h : A ≠ B) : fz (fz f A n D) B m E = fz (fz f B m E) A n D := by
  funext x k
  show (if x = B ∧ k < m then nI (E k) else if x = A ∧ k < n then nI (D k) else f x k) = (if x = A ∧ k < n then nI (D k) else if x = B ∧ k < m then nI (E k) else f x k)
  by_cases q : x = B ∧ k < m
  · rw [if_pos q, if_neg (fun z => h (by omega)), if_pos q]
  · rw [if_neg q, if_neg q]
theorem m_gone {M : Nat} {σ : Hp} {F : Nat → Nat → Int32} {S : St} (g : Good S) (h : RepM M (hv σ F) S) {k r : Nat} {x : Int32} {A B : Nat → Nat} (hk : k ≤ 3) (hr : r ≤ 8) (hA : ∀ j, j < 48 * k + 48 → F (M + 12) j = nI (A j) ∧ A j ≤ 100) (hB : ∀ j, j < 48 * k + 48 → F (M + 13) j = nI (B j) ∧ B j ≤ 100) :
    ∃ F', F_X10_isGone (hv σ F) M (nI k) (nI r) x = some (if gne S x k r then nI 1 else nI 0, hv σ F') ∧ (∀ a j, a ≠ M + 3 → a ≠ M + 12 → a ≠ M + 13 → F' a j = F a j) ∧ (∀ j, j < 48 * k + 48 → F' (M + 12) j = nI (A j) ∧ F' (M + 13) j = nI (B j)) ∧ (gne S x k r → ∀ c, c < 48 → F' (M + 12) (48 * k + 48 + c) = nI ((lv1 S r (fun c => A (48 * k + c), fun c => B (48 * k + c))).1 c) ∧ F' (M + 13) (48 * k + 48 + c) = nI ((lv1 S r (fun c => A (48 * k + c), fun c => B (48 * k + c))).2 c)) := by
  have s : SM M σ := h.1
  have c1 := cst_le S r
  have ml := mn_lt x k
  obtain ⟨A1, hA1⟩ : ∃ A1 : Nat → Nat, A1 = fun j => if j < 48 * k + 48 then A j else A (j - 48) := ⟨_, rfl⟩
  obtain ⟨B1, hB1⟩ : ∃ B1 : Nat → Nat, B1 = fun j => if j < 48 * k + 48 then B j else B (j - 48) := ⟨_, rfl⟩
  have A1l : ∀ j, j < 48 * k + 48 → A1 j = A j := fun j hj => by rw [hA1]; exact if_pos hj
  have B1l : ∀ j, j < 48 * k + 48 → B1 j = B j := fun j hj => by rw [hB1]; exact if_pos hj
  have A1h : ∀ i, A1 (48 * k + 48 + i) = A (48 * k + i) := fun i => by
    rw [hA1]
    show (if 48 * k + 48 + i < 48 * k + 48 then _ else A (48 * k + 48 + i - 48)) = _
    rw [if_neg (by omega), show 48 * k + 48 + i - 48 = 48 * k + i by omega]
  have B1h : ∀ i, B1 (48 * k + 48 + i) = B (48 * k + i) := fun i => by
    rw [hB1]
    show (if 48 * k + 48 + i < 48 * k + 48 then _ else B (48 * k + 48 + i - 48)) = _
    rw [if_neg (by omega), show 48 * k + 48 + i - 48 = 48 * k + i by omega]
  clear hA1 hB1
  have bA1 : ∀ j, j < 48 * k + 96 → A1 j ≤ 100 := fun j hj => by
    by_cases q : j < 48 * k + 48
    · rw [A1l j q]
      exact (hA j q).2
    · have := A1h (j - (48 * k + 48))
      rw [show 48 * k + 48 + (j - (48 * k + 48)) = j by omega] at this
      rw [this]
      exact (hA _ (by omega)).2
  have bB1 : ∀ j, j < 48 * k + 96 → B1 j ≤ 100 := fun j hj => by
    by_cases q : j < 48 * k + 48
    · rw [B1l j q]
      exact (hB j q).2
    · have := B1h (j - (48 * k + 48))
      rw [show 48 * k + 48 + (j - (48 * k + 48)) = j by omega] at this
      rw [this]
      exact (hB _ (by omega)).2
  have z0 : fz (fz F (M + 12) (48 * k + 48 + 0) A1) (M + 13) (48 * k + 48 + 0) B1 = F := by
    have e : fz F (M + 12) (48 * k + 48 + 0) A1 = F := fz_same (fun j hj => by rw [A1l j (by omega)]; exact (hA j (by omega)).1)
    rw [e]
    exact fz_same (fun j hj => by rw [B1l j (by omega)]; exact (hB j (by omega)).1)
  obtain ⟨m, hm⟩ := it_FU (body := fun rec st => B_X10_isGone_3 M (nI k) (nI r) x rec st.1 st.2) (fun i => (hv σ (fz (fz F (M + 12) (48 * k + 48 + i) A1) (M + 13) (48 * k + 48 + i) B1), nI i)) 0 48 (by omega) (by omega) (fun i _ hi rec => by
    have e : u2 (u2 (fz (fz F (M + 12) (48 * k + 48 + i) A1) (M + 13) (48 * k + 48 + i) B1) (M + 12) (48 * k + 48 + i) (nI (A1 (48 * k + 48 + i)))) (M + 13) (48 * k + 48 + i) (nI (B1 (48 * k + 48 + i))) = fz (fz F (M + 12) (48 * k + 48 + (i + 1)) A1) (M + 13) (48 * k + 48 + (i + 1)) B1 := by
      have e1 : u2 (fz (fz F (M + 12) (48 * k + 48 + i) A1) (M + 13) (48 * k + 48 + i) B1) (M + 12) (48 * k + 48 + i) (nI (A1 (48 * k + 48 + i))) = fz (u2 (fz F (M + 12) (48 * k + 48 + i) A1) (M + 12) (48 * k + 48 + i) (nI (A1 (48 * k + 48 + i)))) (M + 13) (48 * k + 48 + i) B1 := fy_u2 (D := fun k => nI (B1 k)) (by omega)
      rw [e1, fz_grow, fz_grow]
      rfl
    have rA : fz (fz F (M + 12) (48 * k + 48 + i) A1) (M + 13) (48 * k + 48 + i) B1 (M + 12) (48 * k + i) = nI (A1 (48 * k + 48 + i)) := by
      rw [fz_off (by omega), fz_rd (by omega), A1h, A1l _ (by omega)]
    have rB : fz (fz F (M + 12) (48 * k + 48 + i) A1) (M + 13) (48 * k + 48 + i) B1 (M + 13) (48 * k + i) = nI (B1 (48 * k + 48 + i)) := by
      rw [fz_rd (by omega), B1h, B1l _ (by omega)]
    show B_X10_isGone_3 M (nI k) (nI r) x rec (hv σ (fz (fz F (M + 12) (48 * k + 48 + i) A1) (M + 13) (48 * k + 48 + i) B1)) (nI i) = rec (hv σ (fz (fz F (M + 12) (48 * k + 48 + (i + 1)) A1) (M + 13) (48 * k + 48 + (i + 1)) B1), nI (i + 1))
    rw [← e]
    generalize fz (fz F (M + 12) (48 * k + 48 + i) A1) (M + 13) (48 * k + 48 + i) B1 = F1 at rA rB
    simp (decide := true) (disch := omega) only [B_X10_isGone_3, gd_hv s.1, gI_hv s.1, pI_hv s.1, s.R15, s.A15, s.W15, s.R16, s.A16, s.W16, b1_some, b2_some, litI, neg1, nI_add, nI_mul, e1_p1, nI_e0, ib, ib1, ite_not, if_true, if_false, not_true_eq_false, not_false_eq_true, setI_hv, le_lit, show ¬ 48 ≤ i by omega, rA, rB, u2_n])
  rw [z0] at hm
  have L0 : F_X10_isGone (hv σ F) M (nI k) (nI r) x = F_X10_isGone_70 (hv σ (fz (fz F (M + 12) (48 * k + 96) A1) (M + 13) (48 * k + 96) B1)) M (nI k) (nI r) x := by
    unfold F_X10_isGone L_X10_isGone_3
    rw [gd_hv s.1]
    refine Eq.trans hm ?_
    show B_X10_isGone_3 M (nI k) (nI r) x m (hv σ (fz (fz F (M + 12) (48 * k + 48 + 48) A1) (M + 13) (48 * k + 48 + 48) B1)) (nI 48) = _
    rw [show 48 * k + 48 + 48 = 48 * k + 96 by omega]
    simp (decide := true) (disch := omega) only [B_X10_isGone_3, b1_some, b2_some, litI, neg1, nI_add, nI_mul, e1_p1, nI_e0, ib, ib1, ite_not, if_true, if_false, not_true_eq_false, not_false_eq_true, setI_hv, le_lit, Nat.le_refl]
  rw [L0]
  have kk : nI 48 * nI k + nI 48 = nI (48 * k + 48) := by rw [nI_mul, nI_add]
  -- what is left of the rows after the day
  have fin : ∀ (F2 : Nat → Nat → Int32) (A2 : Nat → Nat), RepM M (hv σ F2) S → (∀ j, j < 48 * k + 96 → A2 j ≤ 100) → F_X10_isGone_134 (hv σ (fz (fz F2 (M + 12) (48 * k + 96) A2) (M + 13) (48 * k + 96) B1)) M (nI k) = some (nI 1, hv σ (fz (fz F2 (M + 12) (48 * k + 96) (gA S (48 * k + 48) 48 A2)) (M + 13) (48 * k + 96) (gW S (48 * k + 48) 48 B1))) := fun F2 A2 h2 b2 => by
    have gd := m_goDay g h2 (n := 48 * k + 96) (at' := 48 * k + 48) (A := A2) (B := B1) (by omega) (by omega) b2 bB1
    simp (decide := true) (disch := omega) only [F_X10_isGone_134, b1_some, b2_some, litI, neg1, nI_add, nI_mul, e1_p1, nI_e0, ib, ib1, ite_not, if_true, if_false, not_true_eq_false, not_false_eq_true, setI_hv, gd]
  have rdA : ∀ (F2 : Nat → Nat → Int32) (A2 : Nat → Nat), ∀ j, j < 48 * k + 96 → fz (fz F2 (M + 12) (48 * k + 96) (gA S (48 * k + 48) 48 A2)) (M + 13) (48 * k + 96) (gW S (48 * k + 48) 48 B1) (M + 12) j = nI (gA S (48 * k + 48) 48 A2 j) := fun F2 A2 j hj => by
    rw [fz_off (by omega), fz_rd hj]
  have rdB : ∀ (F2 : Nat → Nat → Int32) (A2 : Nat → Nat), ∀ j, j < 48 * k + 96 → fz (fz F2 (M + 12) (48 * k + 96) (gA S (48 * k + 48) 48 A2)) (M + 13) (48 * k + 96) (gW S (48 * k + 48) 48 B1) (M + 13) j = nI (gW S (48 * k + 48) 48 B1 j) := fun F2 A2 j hj => by
    rw [fz_rd hj]
  have gAl : ∀ A2 j, j < 48 * k + 48 → gA S (48 * k + 48) 48 A2 j = A2 j := fun A2 j hj => if_neg (by omega)
  have gWl : ∀ j, j < 48 * k + 48 → gW S (48 * k + 48) 48 B1 j = B j := fun j hj => (if_neg (by omega)).trans (B1l j hj)
  have gAh : ∀ A2 c, c < 48 → gA S (48 * k + 48) 48 A2 (48 * k + 48 + c) = dKv S (A2 (48 * k + 48 + c)) c := fun A2 c hc => by
    unfold gA
    rw [if_pos (by omega), Nat.add_sub_cancel_left]
  have gWh : ∀ c, c < 48 → gW S (48 * k + 48) 48 B1 (48 * k + 48 + c) = dWv S (B (48 * k + c)) := fun c hc => by
    unfold gW
    rw [if_pos (by omega), B1h]
  by_cases q8 : r = 8
  · subst q8
    have gn : gne S x k 8 := Or.inl rfl
    rw [if_pos gn]
    refine ⟨_, ?_, ?_, fun j hj => ⟨(rdA F A1 j (by omega)).trans ?_, (rdB F A1 j (by omega)).trans ?_⟩, fun _ c hc => ⟨(rdA F A1 _ (by omega)).trans ?_, (rdB F A1 _ (by omega)).trans ?_⟩⟩
    · refine Eq.trans ?_ (fin F A1 h bA1)
      simp (decide := true) (disch := omega) only [F_X10_isGone_70, F_X10_isGone_85, F_X10_isGone_115, b1_some, b2_some, litI, neg1, nI_add, nI_mul, e1_p1, nI_e0, ib, ib1, ite_not, if_true, if_false, not_true_eq_false, not_false_eq_true, setI_hv, mn_eq, le_lit, Nat.zero_le, Nat.le_refl]
    · intro a j h1 h2 h3
      rw [fz_off h3, fz_off h2]
    · rw [gAl _ _ hj, A1l _ hj]
    · rw [gWl _ hj]
    · rw [gAh _ _ hc, A1h]
      rfl
    · rw [gWh _ hc]
      rfl
  · have hr8 : r < 8 := by omega
    have h' : RepM M (hv σ (fz (fz F (M + 12) (48 * k + 96) A1) (M + 13) (48 * k + 96) B1)) S := (h.zz 12 _ _ (by omega)).zz 13 _ _ (by omega)
    have h2 : RepM M (hv σ (fz F (M + 3) 8 (tn S 0 8))) S := h.zz 3 _ _ (by omega)
    have mc : F_X10_costOf (hv σ (fz (fz F (M + 12) (48 * k + 96) A1) (M + 13) (48 * k + 96) B1)) M (nI r) = some (e1 (cst S r), hv σ (fz (fz (fz F (M + 3) 8 (tn S 0 8)) (M + 12) (48 * k + 96) A1) (M + 13) (48 * k + 96) B1)) := by
      have := m_cost' g h' hr8
      rw [fz_com (A := M + 13) (B := M + 3) (by omega), fz_com (A := M + 12) (B := M + 3) (by omega)] at this
      exact this
    by_cases gn : gne S x k r
    · have gn' := gn.resolve_left q8
      have wk := m_goWalk g h2 (n := 48 * k + 96) (at' := 48 * k + 48) (r := r) (A := A1) (B := B1) hr8 (by omega) (by omega) bA1
      have bA2 : ∀ j, j < 48 * k + 96 → wAt S r (48 * k + 48) 6 A1 j ≤ 100 := fun j hj => by
        unfold wAt
        split
        · exact wkv_le g _ (bA1 j hj)
        · exact bA1 j hj
      rw [if_pos gn]
      refine ⟨_, ?_, ?_, fun j hj => ⟨(rdA (fz F (M + 3) 8 (tn S 0 8)) (wAt S r (48 * k + 48) 6 A1) j (by omega)).trans ?_, (rdB (fz F (M + 3) 8 (tn S 0 8)) (wAt S r (48 * k + 48) 6 A1) j (by omega)).trans ?_⟩, fun _ c hc => ⟨(rdA (fz F (M + 3) 8 (tn S 0 8)) (wAt S r (48 * k + 48) 6 A1) _ (by omega)).trans ?_, (rdB (fz F (M + 3) 8 (tn S 0 8)) (wAt S r (48 * k + 48) 6 A1) _ (by omega)).trans ?_⟩⟩
      · refine Eq.trans ?_ (fin _ _ h2 bA2)
        simp (decide := true) (disch := omega) only [F_X10_isGone_70, F_X10_isGone_85, F_X10_isGone_115, b1_some, b2_some, litI, neg1, nI_add, nI_mul, e1_p1, nI_e0, ib, ib1, ite_not, if_true, if_false, not_true_eq_false, not_false_eq_true, setI_hv, mc, wk, mn_eq, le_lit, eq_lit, q8, e1_of, show cst S r - 1 ≤ mn x k by omega, show ¬ 8 ≤ r by omega]
      · intro a j h1 h2 h3
        rw [fz_off h3, fz_off h2, fz_off h1]
      · rw [gAl _ _ hj]
        unfold wAt
        rw [if_neg (by omega), A1l _ hj]
      · rw [gWl _ hj]
      · rw [gAh _ _ hc]
        unfold lv1
        rw [if_neg q8]
        show nI (dKv S (wAt S r (48 * k + 48) 6 A1 (48 * k + 48 + c)) c) = nI (dKv S (wK S r (fun c => A (48 * k + c)) 6 c) c)
        unfold wAt wK
        rw [A1h, Nat.add_sub_cancel_left]
        by_cases z : 6 * r ≤ c ∧ c < 6 * r + 6
        · rw [if_pos (by omega), if_pos z]
        · rw [if_neg (by omega), if_neg z]
      · rw [gWh _ hc]
        unfold lv1
        rw [if_neg q8]
        rfl
    · rw [if_neg gn]
      refine ⟨fz (fz (fz F (M + 3) 8 (tn S 0 8)) (M + 12) (48 * k + 96) A1) (M + 13) (48 * k + 96) B1, ?_, ?_, fun j hj => ⟨?_, ?_⟩, fun z => absurd z gn⟩
      · by_cases q2 : cst S r = 0
        · simp (decide := true) (disch := omega) only [F_X10_isGone_70, F_X10_isGone_85, b1_some, b2_some, litI, neg1, nI_add, nI_mul, e1_p1, nI_e0, ib, ib1, ite_not, if_true, if_false, not_true_eq_false, not_false_eq_true, setI_hv, mc, eq_lit, q8, q2]
        · have q3 : ¬ cst S r ≤ mn x k + 1 := fun z => gn (Or.inr ⟨q2, z⟩)
          simp (decide := true) (disch := omega) only [F_X10_isGone_70, F_X10_isGone_85, b1_some, b2_some, litI, neg1, nI_add, nI_mul, e1_p1, nI_e0, ib, ib1, ite_not, if_true, if_false, not_true_eq_false, not_false_eq_true, setI_hv, mc, mn_eq, le_lit, eq_lit, q8, e1_of, show ¬ cst S r - 1 ≤ mn x k by omega, show ¬ 8 ≤ r by omega]
      · intro a j h1 h2 h3
        rw [fz_off h3, fz_off h2, fz_off h1]
      · rw [fz_off (by omega), fz_rd (by omega), A1l _ hj]
      · rw [fz_rd (by omega), B1l _ hj]
theorem m_all {M : Nat} {σ : Hp} {F : Nat → Nat → Int32} {S : St} (g : Good S) (h : RepM M (hv σ F) S) {n : Nat} {K : Nat → Nat} (hn : n ≤ 4) (hK : ∀ c, c < 48 → F (M + 12) (48 * n + c) = nI (K c)) : F_X10_allAt (hv σ F) M (nI (48 * n)) = some (nI (sts (S.2 9) K), hv σ F) := by
  have s : SM M σ := h.1
  unfold F_X10_allAt L_X10_allAt_4
  rw [gd_hv s.1]
  obtain ⟨m, hm⟩ := it_FU (body := fun rec st => B_X10_allAt_4 (hv σ F) M (nI (48 * n)) rec st.1 st.2) (fun i => (nI (sumR (fun c => if S.2 9 c = 0 then 0 else K c) 0 i), nI i)) 0 48 (by omega) (by omega) (fun i _ hi rec => by
    have b := g.cn hi
    have e := hK i hi
    show B_X10_allAt_4 (hv σ F) M (nI (48 * n)) rec (nI (sumR (fun c => if S.2 9 c = 0 then 0 else K c) 0 i)) (nI i) = rec (nI (sumR (fun c => if S.2 9 c = 0 then 0 else K c) 0 i + if S.2 9 (0 + i) = 0 then 0 else K (0 + i)), nI (i + 1))
    rw [Nat.zero_add]
    by_cases q : S.2 9 i = 0
    · simp (decide := true) (disch := omega) only [B_X10_allAt_4, gd_hv s.1, gI_hv s.1, pI_hv s.1, s.R9, s.A9, s.W9, s.R15, s.A15, s.W15, b1_some, b2_some, litI, neg1, nI_add, nI_mul, e1_p1, nI_e0, ib, ib1, ite_not, if_true, if_false, not_true_eq_false, not_false_eq_true, setI_hv, le_lit, show ¬ 48 ≤ i by omega, h.a9, e1_inj, q]
    · simp (decide := true) (disch := omega) only [B_X10_allAt_4, gd_hv s.1, gI_hv s.1, pI_hv s.1, s.R9, s.A9, s.W9, s.R15, s.A15, s.W15, b1_some, b2_some, litI, neg1, nI_add, nI_mul, e1_p1, nI_e0, ib, ib1, ite_not, if_true, if_false, not_true_eq_false, not_false_eq_true, setI_hv, le_lit, show ¬ 48 ≤ i by omega, h.a9, e1_inj, q, e])
  refine hm.trans ?_
  simp (decide := true) (disch := omega) only [B_X10_allAt_4, b1_some, b2_some, litI, neg1, nI_add, nI_mul, e1_p1, nI_e0, ib, ib1, ite_not, if_true, if_false, not_true_eq_false, not_false_eq_true, setI_hv, le_lit, Nat.le_refl]
  rfl
/-! the component's costs -/
theorem x_costs {N : Nat} {σ : Hp} {f : Nat → Nat → Int32} {S : St} (g : Good S) (h : RepX N (hv σ f) S) : ∃ f', F_X0_layCosts (hv σ f) N = some (hv σ f') ∧ (∀ r, r < 8 → f' (N + 231) r = e1 (cst S r)) ∧ ∀ a k, a ≠ N + 231 → f' a k = f a k := by
  have s : SX N σ := h.1
  unfold F_X0_layCosts L_X0_layCosts_2
  rw [gd_hv s.t0]
  obtain ⟨st, r, ⟨f', es, p1, p2⟩, e⟩ := it_invF (body := fun rec st => B_X0_layCosts_2 N rec st.1 st.2) (fun i st => ∃ f', st = (hv σ f', nI i) ∧ (∀ r, r < i → f' (N + 231) r = e1 (cst S r)) ∧ ∀ a k, a ≠ N + 231 → f' a k = f a k) 0 8 (by omega) (by omega) (fun i st _ hi hp => by
    obtain ⟨f1, rfl, p1, p2⟩ := hp
    have h1 : RepX N (hv σ f1) S := h.sx (fun a k ha => p2 a k (ha 231 (by omega)))
    have c : F_X0_costOf (hv σ f1) N (nI i) = some (e1 (cst S i), hv σ f1) := x_cost' g h1 hi
    refine ⟨_, ⟨u2 f1 (N + 231) i (e1 (cst S i)), rfl, fun r hr => ?_, fun a k ha => ?_⟩, fun rec => ?_⟩
    · by_cases q : r = i
      · subst q
        exact u2_e
      · rw [u2_n (by omega)]
        exact p1 r (by omega)
    · rw [u2_n (by omega)]
      exact p2 a k ha
    · simp (decide := true) (disch := omega) only [B_X0_layCosts_2, gd_hv s.t0, gI_hv s.t0, pI_hv s.t0, s.R20, s.A231, s.W231, b1_some, b2_some, litI, neg1, nI_add, nI_mul, e1_p1, nI_e0, ib, ib1, ite_not, if_true, if_false, not_true_eq_false, not_false_eq_true, setI_hv, le_lit, show ¬ 8 ≤ i by omega, c]) (hv σ f, nI 0) ⟨f, rfl, fun c hc => absurd hc (Nat.not_lt_zero c), fun _ _ _ => rfl⟩
  subst es
  refine ⟨f', e.trans ?_, p1, p2⟩
  simp (decide := true) (disch := omega) only [B_X0_layCosts_2, b1_some, b2_some, litI, neg1, nI_add, nI_mul, e1_p1, nI_e0, ib, ib1, ite_not, if_true, if_false, not_true_eq_false, not_false_eq_true, setI_hv, le_lit, Nat.le_refl]
noncomputable def oJudge (w n x : Int32) (S : St) : Int32 × St := if inR n 1 4 ∧ amn n.toNatClampNeg x ∧ ∀ k, k < n.toNatClampNeg → rwv w k ≤ 8 then (e1 (sbv S x (rwv w) n.toNatClampNeg), S) else (-3, S)
theorem x_judge (N : Nat) (w n x : Int32) : OkXf N (fun σ => F_X0_judge σ N w n x) (oJudge w n x) := by
  intro σ f S g h
  have s : SX N σ := h.1
  rcases in_split n 1 4 (by omega) (by omega) with ⟨i, h1, hi, rfl⟩ | hk
  case inr =>
    have e : oJudge w n x S = (-3, S) := if_neg (fun z => hk z.1)
    rw [e]
    refine ⟨f, ?_, h, fun _ _ _ => rfl⟩
    show F_X0_judge (hv σ f) N w n x = some (-3, hv σ f)
    obtain ⟨m, hm⟩ := it_FU (body := fun rec st => B_X0_judge_10 N w n x rec st.1 st.2.1 st.2.2) (fun k => (hv σ f, nI 0, nI 0)) 0 0 (by omega) (by omega) (fun k _ hk rec => by omega)
    have L0 : F_X0_judge (hv σ f) N w n x = it (fun rec st => B_X0_judge_10 N w n x rec st.1 st.2.1 st.2.2) FU (hv σ f, nI 0, nI 0) := by
      unfold F_X0_judge L_X0_judge_10
      rw [gd_hv s.t0, x_mins0 hk, b2_some]
      rfl
    rw [L0, hm]
    simp (decide := true) (disch := omega) only [B_X0_judge_10, F_X0_judge_62, b1_some, b2_some, litI, neg1, nI_add, nI_mul, e1_p1, nI_e0, ib, ib1, ite_not, if_true, if_false, not_true_eq_false, not_false_eq_true, setI_hv]
  by_cases qa : amn i x
  case neg =>
    have e : oJudge w (nI i) x S = (-3, S) := if_neg (fun z => qa (by have := z.2.1; rw [cl_I (by omega)] at this; exact this))
    rw [e]
    refine ⟨f, ?_, h, fun _ _ _ => rfl⟩
    show F_X0_judge (hv σ f) N w (nI i) x = some (-3, hv σ f)
    obtain ⟨m, hm⟩ := it_FU (body := fun rec st => B_X0_judge_10 N w (nI i) x rec st.1 st.2.1 st.2.2) (fun k => (hv σ f, nI 0, nI 0)) 0 0 (by omega) (by omega) (fun k _ hk rec => by omega)
    have L0 : F_X0_judge (hv σ f) N w (nI i) x = it (fun rec st => B_X0_judge_10 N w (nI i) x rec st.1 st.2.1 st.2.2) FU (hv σ f, nI 0, nI 0) := by
      unfold F_X0_judge L_X0_judge_10
      rw [gd_hv s.t0, x_mins h1 hi, if_neg qa, b2_some]
      rfl
    rw [L0, hm]
    simp (decide := true) (disch := omega) only [B_X0_judge_10, F_X0_judge_62, b1_some, b2_some, litI, neg1, nI_add, nI_mul, e1_p1, nI_e0, ib, ib1, ite_not, if_true, if_false, not_true_eq_false, not_false_eq_true, setI_hv]
  have L0 : F_X0_judge (hv σ f) N w (nI i) x = it (fun rec st => B_X0_judge_10 N w (nI i) x rec st.1 st.2.1 st.2.2) FU (hv σ f, nI 1, nI 0) := by
    unfold F_X0_judge L_X0_judge_10
    rw [gd_hv s.t0, x_mins h1 hi, if_pos qa, b2_some]
    rfl
  have z0 : fz f (N + 230) 0 (rwv w) = f := fz_0 _ _ _
  obtain ⟨j, hj, g2, g3⟩ := first (P := fun k => ¬ rwv w k ≤ 8) i
  obtain ⟨m, hm⟩ := it_FU (body := fun rec st => B_X0_judge_10 N w (nI i) x rec st.1 st.2.1 st.2.2) (fun k => (hv σ (fz f (N + 230) k (rwv w)), if k ≤ j then nI 1 else nI 0, nI k)) 0 (if j = i then i else j + 1) (by omega) (by split <;> omega) (fun k _ hk rec => by
    have kj : k ≤ j ∧ k < i := by
      by_cases e : j = i
      · rw [if_pos e] at hk
        omega
      · rw [if_neg e] at hk
        omega
    have rl := rwv_lt w k
    show B_X0_judge_10 N w (nI i) x rec (hv σ (fz f (N + 230) k (rwv w))) (if k ≤ j then nI 1 else nI 0) (nI k) = rec (hv σ (fz f (N + 230) (k + 1) (rwv w)), if k + 1 ≤ j then nI 1 else nI 0, nI (k + 1))
    rw [if_pos kj.1, ← fz_grow]
    by_cases z : k = j
    · have q : ¬ rwv w j ≤ 8 := g3.resolve_left (by omega)
      rw [if_neg (by omega)]
      rw [← z] at q
      simp (decide := true) (disch := omega) only [B_X0_judge_10, gd_hv s.t0, gI_hv s.t0, pI_hv s.t0, s.R19, s.A230, s.W230, b1_some, b2_some, litI, neg1, nI_add, nI_mul, e1_p1, nI_e0, ib, ib1, ite_not, if_true, if_false, not_true_eq_false, not_false_eq_true, setI_hv, le_lit, lt_lit, show ¬ i ≤ k by omega, rwv_eq, u2_e, show 8 < rwv w k by omega]
    · have q : rwv w k ≤ 8 := Classical.not_not.mp (g2 k (by omega))
      rw [if_pos (by omega)]
      simp (decide := true) (disch := omega) only [B_X0_judge_10, gd_hv s.t0, gI_hv s.t0, pI_hv s.t0, s.R19, s.A230, s.W230, b1_some, b2_some, litI, neg1, nI_add, nI_mul, e1_p1, nI_e0, ib, ib1, ite_not, if_true, if_false, not_true_eq_false, not_false_eq_true, setI_hv, le_lit, lt_lit, show ¬ i ≤ k by omega, rwv_eq, u2_e, show ¬ 8 < rwv w k by omega])
  simp only [z0, Nat.zero_le, if_true] at hm
  have hb : ∀ a k, a < N ∨ N + 245 ≤ a → fz f (N + 230) i (rwv w) a k = f a k := fun a k ha => fz_off (by omega)
  by_cases ej : j = i
  · have all : ∀ k, k < i → rwv w k ≤ 8 := fun k hk => Classical.not_not.mp (g2 k (by omega))
    have e : oJudge w (nI i) x S = (e1 (sbv S x (rwv w) i), S) := by
      unfold oJudge
      rw [cl_I (by omega)]
      exact if_pos ⟨inR_of h1 hi (by omega), qa, all⟩
    rw [e]
    have h1' : RepX N (hv σ (fz f (N + 230) i (rwv w))) S := h.sx (fun a k ha => fz_off (ha 230 (by omega)))
    obtain ⟨f2, c1, c2, c3⟩ := x_costs g h1'
    have h2' : RepX N (hv σ f2) S := h1'.sx (fun a k ha => c3 a k (ha 231 (by omega)))
    obtain ⟨f3, s1, s2⟩ := x_sb g h2' (n := i) (x := x) (p := rwv w) hi (fun k hk => ⟨all k hk, (c3 _ _ (by omega)).trans (fz_rd hk)⟩) c2
    refine ⟨f3, ?_, h2'.sx (fun a k ha => s2 a k (fun o h1 h2 => ha o (by omega))), fun a k ha => ?_⟩
    · show F_X0_judge (hv σ f) N w (nI i) x = _
      rw [L0]
      refine hm.trans ?_
      rw [if_pos ej]
      show B_X0_judge_10 N w (nI i) x m (hv σ (fz f (N + 230) i (rwv w))) (if i ≤ j then nI 1 else nI 0) (nI i) = _
      rw [if_pos (by omega)]
      simp (decide := true) (disch := omega) only [B_X0_judge_10, F_X0_judge_62, b1_some, b2_some, litI, neg1, nI_add, nI_mul, e1_p1, nI_e0, ib, ib1, ite_not, if_true, if_false, not_true_eq_false, not_false_eq_true, setI_hv, le_lit, Nat.le_refl, c1, s1]
    · rw [s2 a k (fun o _ _ => by omega), c3 a k (by omega), hb a k ha]
  · have q : ¬ rwv w j ≤ 8 := g3.resolve_left ej
    have e : oJudge w (nI i) x S = (-3, S) := by
      unfold oJudge
      rw [cl_I (by omega)]
      exact if_neg (fun z => q (z.2.2 j (by omega)))
    rw [e]
    refine ⟨fz f (N + 230) (j + 1) (rwv w), ?_, h.sx (fun a k ha => fz_off (ha 230 (by omega))), fun a k ha => fz_off (by omega)⟩
    show F_X0_judge (hv σ f) N w (nI i) x = _
    rw [L0]
    refine hm.trans ?_
    rw [if_neg ej]
    show B_X0_judge_10 N w (nI i) x m (hv σ (fz f (N + 230) (j + 1) (rwv w))) (if j + 1 ≤ j then nI 1 else nI 0) (nI (j + 1)) = _
    rw [if_neg (by omega)]
    simp (decide := true) (disch := omega) only [B_X0_judge_10, F_X0_judge_62, b1_some, b2_some, litI, neg1, nI_add, nI_mul, e1_p1, nI_e0, ib, ib1, ite_not, if_true, if_false, not_true_eq_false, not_false_eq_true, setI_hv]
/-- the rows beside up to day k -/
def RowsAt (M : Nat) (F : Nat → Nat → Int32) (S : St) (p : Nat → Nat) (k : Nat) : Prop := ∀ i, i ≤ k → ∀ c, c < 48 → F (M + 12) (48 * i + c) = nI ((lvs S p i).1 c) ∧ F (M + 13) (48 * i + c) = nI ((lvs S p i).2 c)
theorem m_step {M : Nat} {σ : Hp} {F : Nat → Nat → Int32} {S : St} (g : Good S) (h : RepM M (hv σ F) S) {k : Nat} {x : Int32} {p : Nat → Nat} (hk : k ≤ 3) (hr : p k ≤ 8) (hA : RowsAt M F S p k) :
    ∃ F', F_X10_isGone (hv σ F) M (nI k) (nI (p k)) x = some (if gne S x k (p k) then nI 1 else nI 0, hv σ F') ∧ (∀ a j, a ≠ M + 3 → a ≠ M + 12 → a ≠ M + 13 → F' a j = F a j) ∧ RowsAt M F' S p k ∧ (gne S x k (p k) → RowsAt M F' S p (k + 1)) ∧ RepM M (hv σ F') S := by
  have sp : ∀ j, j < 48 * k + 48 → j / 48 ≤ k ∧ j % 48 < 48 ∧ 48 * (j / 48) + j % 48 = j := fun j hj => by omega
  obtain ⟨F', r1, r2, r3, r4⟩ := m_gone g h (k := k) (r := p k) (x := x) (A := fun j => (lvs S p (j / 48)).1 (j % 48)) (B := fun j => (lvs S p (j / 48)).2 (j % 48)) hk hr (fun j hj => by
    have e := sp j hj
    have := (hA (j / 48) e.1 (j % 48) e.2.1).1
    rw [e.2.2] at this
    exact ⟨this, (lvs_b g p (j / 48) _ e.2.1).1⟩) (fun j hj => by
    have e := sp j hj
    have := (hA (j / 48) e.1 (j % 48) e.2.1).2
    rw [e.2.2] at this
    exact ⟨this, (lvs_b g p (j / 48) _ e.2.1).2.1⟩)
  have old : RowsAt M F' S p k := fun i hi c hc => by
    have := r3 (48 * i + c) (by omega)
    simp only [show (48 * i + c) / 48 = i by omega, show (48 * i + c) % 48 = c by omega] at this
    exact this
  refine ⟨F', r1, r2, old, fun gn i hi c hc => ?_, ?_⟩
  · by_cases e : i = k + 1
    · subst e
      have := r4 gn c hc
      rw [show 48 * (k + 1) + c = 48 * k + 48 + c by omega]
      have e2 : ∀ L1 L2 : Lv, (∀ c, c < 48 → L1.1 c = L2.1 c ∧ L1.2 c = L2.2 c) → (lv1 S (p k) L1).1 c = (lv1 S (p k) L2).1 c ∧ (lv1 S (p k) L1).2 c = (lv1 S (p k) L2).2 c := fun L1 L2 hl => by
        have l := hl c hc
        unfold lv1
        by_cases q : p k = 8
        · rw [if_pos q, if_pos q]
          show dKv S (L1.1 c) c = dKv S (L2.1 c) c ∧ dWv S (L1.2 c) = dWv S (L2.2 c)
          rw [l.1, l.2]
          exact ⟨rfl, rfl⟩
        · rw [if_neg q, if_neg q]
          show dKv S (wK S (p k) L1.1 6 c) c = dKv S (wK S (p k) L2.1 6 c) c ∧ dWv S (L1.2 c) = dWv S (L2.2 c)
          unfold wK
          rw [l.1, l.2]
          exact ⟨rfl, rfl⟩
      have e3 := e2 (fun c => (lvs S p ((48 * k + c) / 48)).1 ((48 * k + c) % 48), fun c => (lvs S p ((48 * k + c) / 48)).2 ((48 * k + c) % 48)) (lvs S p k) (fun c hc => by
        show (lvs S p ((48 * k + c) / 48)).1 ((48 * k + c) % 48) = (lvs S p k).1 c ∧ (lvs S p ((48 * k + c) / 48)).2 ((48 * k + c) % 48) = (lvs S p k).2 c
        rw [show (48 * k + c) / 48 = k by omega, show (48 * k + c) % 48 = c by omega]
        exact ⟨rfl, rfl⟩)
      rw [this.1, this.2]
      exact ⟨congrArg nI e3.1, congrArg nI e3.2⟩
    · exact old i (by omega) c hc
  · have e1' : RepM M (hv σ (fun a j => if a = M + 3 then F' a j else F a j)) S := h.sa 3 (by omega) (fun a j ha => if_neg ha)
    have e2' : RepM M (hv σ (fun a j => if a = M + 12 then F' a j else if a = M + 3 then F' a j else F a j)) S := e1'.sa 12 (by omega) (fun a j ha => if_neg ha)
    refine e2'.sa 13 (by omega) (fun a j ha => ?_)
    by_cases q1 : a = M + 12
    · exact (if_pos q1).symm
    · by_cases q2 : a = M + 3
      · exact ((if_neg q1).trans (if_pos q2)).symm
      · exact (r2 a j q2 q1 ha).trans ((if_neg q1).trans (if_neg q2)).symm
theorem m_rows0 {M : Nat} {σ : Hp} {f : Nat → Nat → Int32} {S : St} (g : Good S) (h : RepM M (hv σ f) S) (p : Nat → Nat) : RowsAt M (fz (fz f (M + 12) 48 (S.2 10)) (M + 13) 48 (S.2 12)) S p 0 ∧ RepM M (hv σ (fz (fz f (M + 12) 48 (S.2 10)) (M + 13) 48 (S.2 12))) S := by
  refine ⟨fun i hi c hc => ?_, (h.zz 12 _ _ (by omega)).zz 13 _ _ (by omega)⟩
  have : i = 0 := by omega
  subst this
  rw [show 48 * 0 + c = c by omega, fz_off (by omega), fz_rd hc, fz_rd hc]
  exact ⟨rfl, rfl⟩
theorem m_judge (M : Nat) (w n x : Int32) : OkMf M (fun σ => F_X10_judge σ M w n x) (oJudge w n x) := by
  intro σ f S g h
  have s : SM M σ := h.1
  rcases in_split n 1 4 (by omega) (by omega) with ⟨i, h1, hi, rfl⟩ | hk
  case inr =>
    have e : oJudge w n x S = (-3, S) := if_neg (fun z => hk z.1)
    rw [e]
    refine ⟨f, ?_, h, fun _ _ _ => rfl⟩
    show F_X10_judge (hv σ f) M w n x = some (-3, hv σ f)
    unfold F_X10_judge
    rw [gd_hv s.1, m_mins0 hk, b2_some]
    rfl
  by_cases qa : amn i x
  case neg =>
    have e : oJudge w (nI i) x S = (-3, S) := if_neg (fun z => qa (by have := z.2.1; rw [cl_I (by omega)] at this; exact this))
    rw [e]
    refine ⟨f, ?_, h, fun _ _ _ => rfl⟩
    show F_X10_judge (hv σ f) M w (nI i) x = some (-3, hv σ f)
    unfold F_X10_judge
    rw [gd_hv s.1, m_mins h1 hi, if_neg qa, b2_some]
    rfl
  have L0 : F_X10_judge (hv σ f) M w (nI i) x = it (fun rec st => B_X10_judge_14 (hv σ f) M w (nI i) x rec st) FU (nI 0) := by
    unfold F_X10_judge L_X10_judge_14
    rw [gd_hv s.1, m_mins h1 hi, if_pos qa, b2_some]
    rfl
  obtain ⟨j, hj, g2, g3⟩ := first (P := fun k => ¬ rwv w k ≤ 8) i
  obtain ⟨m, hm⟩ := it_FU (body := fun rec st => B_X10_judge_14 (hv σ f) M w (nI i) x rec st) (fun k => nI k) 0 j (by omega) (by omega) (fun k _ hk rec => by
    have rl := rwv_lt w k
    have q : rwv w k ≤ 8 := Classical.not_not.mp (g2 k (by omega))
    simp (decide := true) (disch := omega) only [B_X10_judge_14, b1_some, b2_some, litI, neg1, nI_add, nI_mul, e1_p1, nI_e0, ib, ib1, ite_not, if_true, if_false, not_true_eq_false, not_false_eq_true, setI_hv, le_lit, show ¬ i ≤ k by omega, rwv_eq, q])
  by_cases ej : j = i
  · have all : ∀ k, k < i → rwv w k ≤ 8 := fun k hk => Classical.not_not.mp (g2 k (by omega))
    have e : oJudge w (nI i) x S = (e1 (sbv S x (rwv w) i), S) := by
      unfold oJudge
      rw [cl_I (by omega)]
      exact if_pos ⟨inR_of h1 hi (by omega), qa, all⟩
    rw [e]
    have r0 := m_rows0 g h (rwv w)
    obtain ⟨i0, hi0, t2, t3⟩ := first (P := fun k => ¬ gne S x k (rwv w k)) i
    obtain ⟨st, rr, ⟨F, es, p1, p2, p3⟩, er⟩ := it_invF (body := fun rec st => B_X10_judge_50 M w (nI i) x rec st.1 st.2) (fun k st => ∃ F, st = (hv σ F, nI k) ∧ RowsAt M F S (rwv w) k ∧ RepM M (hv σ F) S ∧ ∀ a j, a < M ∨ M + 26 ≤ a → F a j = f a j) 0 i0 (by omega) (by omega) (fun k st _ hk hq => by
      obtain ⟨F, rfl, p1, p2, p3⟩ := hq
      obtain ⟨F', u1, u2', u3, u4, u5⟩ := m_step g p2 (k := k) (x := x) (p := rwv w) (by omega) (all k (by omega)) p1
      have gn : gne S x k (rwv w k) := Classical.not_not.mp (t2 k hk)
      rw [if_pos gn] at u1
      refine ⟨_, ⟨F', rfl, u4 gn, u5, fun a j ha => (u2' a j (by omega) (by omega) (by omega)).trans (p3 a j ha)⟩, fun rec => ?_⟩
      simp (decide := true) (disch := omega) only [B_X10_judge_50, b1_some, b2_some, litI, neg1, nI_add, nI_mul, e1_p1, nI_e0, ib, ib1, ite_not, if_true, if_false, not_true_eq_false, not_false_eq_true, setI_hv, le_lit, show ¬ i ≤ k by omega, rwv_eq, u1]) (hv σ (fz (fz f (M + 12) 48 (S.2 10)) (M + 13) 48 (S.2 12)), nI 0) ⟨_, rfl, r0.1, r0.2, fun a j ha => by rw [fz_off (by omega), fz_off (by omega)]⟩
    subst es
    have L1 : F_X10_judge (hv σ f) M w (nI i) x = B_X10_judge_50 M w (nI i) x rr (hv σ F) (nI i0) := by
      rw [L0]
      refine hm.trans (Eq.trans ?_ er)
      rw [ej]
      simp (decide := true) (disch := omega) only [B_X10_judge_14, b1_some, b2_some, litI, neg1, nI_add, nI_mul, e1_p1, nI_e0, ib, ib1, ite_not, if_true, if_false, not_true_eq_false, not_false_eq_true, setI_hv, le_lit, Nat.le_refl, m_look g h]
      rfl
    by_cases e0 : i0 = i
    · refine ⟨F, ?_, p2, p3⟩
      show F_X10_judge (hv σ f) M w (nI i) x = _
      rw [L1, e0]
      rw [e0] at p1 t2
      have v : sbv S x (rwv w) i = sts (S.2 9) (lvs S (rwv w) i).1 + 1 := if_pos (fun k hk => Classical.not_not.mp (t2 k hk))
      rw [v]
      have al := m_all g p2 (n := i) (K := (lvs S (rwv w) i).1) hi (fun c hc => (p1 i (Nat.le_refl _) c hc).1)
      simp (decide := true) (disch := omega) only [B_X10_judge_50, F_X10_judge_83, b1_some, b2_some, litI, neg1, nI_add, nI_mul, e1_p1, nI_e0, ib, ib1, ite_not, if_true, if_false, not_true_eq_false, not_false_eq_true, setI_hv, le_lit, Nat.le_refl, al, e1_s]
    · have gn : ¬ gne S x i0 (rwv w i0) := t3.resolve_left e0
      obtain ⟨F', u1, u2', u3, u4, u5⟩ := m_step g p2 (k := i0) (x := x) (p := rwv w) (by omega) (all i0 (by omega)) p1
      rw [if_neg gn] at u1
      refine ⟨F', ?_, u5, fun a j ha => (u2' a j (by omega) (by omega) (by omega)).trans (p3 a j ha)⟩
      show F_X10_judge (hv σ f) M w (nI i) x = _
      rw [L1]
      have v : sbv S x (rwv w) i = 0 := if_neg (fun z => gn (z i0 (by omega)))
      rw [v]
      simp (decide := true) (disch := omega) only [B_X10_judge_50, b1_some, b2_some, litI, neg1, nI_add, nI_mul, e1_p1, nI_e0, ib, ib1, ite_not, if_true, if_false, not_true_eq_false, not_false_eq_true, setI_hv, le_lit, show ¬ i ≤ i0 by omega, rwv_eq, u1]
  · have q : ¬ rwv w j ≤ 8 := g3.resolve_left ej
    have rl := rwv_lt w j
    have e : oJudge w (nI i) x S = (-3, S) := by
      unfold oJudge
      rw [cl_I (by omega)]
      exact if_neg (fun z => q (z.2.2 j (by omega)))
    rw [e]
    refine ⟨f, ?_, h, fun _ _ _ => rfl⟩
    show F_X10_judge (hv σ f) M w (nI i) x = _
    rw [L0]
    refine hm.trans ?_
    simp (decide := true) (disch := omega) only [B_X10_judge_14, b1_some, b2_some, litI, neg1, nI_add, nI_mul, e1_p1, nI_e0, ib, ib1, ite_not, if_true, if_false, not_true_eq_false, not_false_eq_true, setI_hv, le_lit, show ¬ i ≤ j by omega, rwv_eq, q]
