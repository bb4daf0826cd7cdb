set_option maxRecDepth 100000
/-! pure law 31: the best plan, by the twin -/
theorem RowsAt.cg {M : Nat} {F : Nat → Nat → Int32} {S : St} {p q : Nat → Nat} {k : Nat} (h : RowsAt M F S p k) (e : ∀ j, j < k → p j = q j) : RowsAt M F S q k := fun i hi c hc => by
  rw [← lvs_cg (S := S) i (fun j hj => e j (by omega))]
  exact h i hi c hc
theorem RowsAt.fr {M : Nat} {F F' : Nat → Nat → Int32} {S : St} {p : Nat → Nat} {k : Nat} (h : RowsAt M F S p k) (e : ∀ a j, a = M + 12 ∨ a = M + 13 → F' a j = F a j) : RowsAt M F' S p k := fun i hi c hc => by
  rw [e _ _ (Or.inl rfl), e _ _ (Or.inr rfl)]
  exact h i hi c hc
def BestAt (M : Nat) (F : Nat → Nat → Int32) (n k : Nat) : Prop := k ≠ 0 → ∀ i, i < n → F (M + 15) i = nI (dgb 9 n (k - 1) i)
/-- what the copying of a leaf's word leaves -/
def lfF (M n o v : Nat) (F : Nat → Nat → Int32) : Nat → Nat → Int32 := if o < v + 1 then fy F (M + 15) n (fun j => F (M + 14) j) else F
theorem lf_off {M n o v : Nat} {F : Nat → Nat → Int32} {a j : Nat} (h : a ≠ M + 15) : lfF M n o v F a j = F a j := by
  unfold lfF
  split
  · exact fy_off (fun z => h z.1)
  · rfl
theorem m_leaf {M : Nat} {σ : Hp} {F : Nat → Nat → Int32} (s : SM M σ) {n o v : Nat} {x w x5 : Int32} (hn : n ≤ 4) (ho : o < 100000) (hv' : v < 100000) (rec : Hp × Int32 × Int32 → Option (Int32 × Hp)) : L_X10_plan_120 rec M (nI n) x w (e1 o) x5 (nI v) FU (hv σ F, nI 0) = rec (hv σ (lfF M n o v F), e1 (if o < v + 1 then v + 1 else o), x5 + e1 0) := by
  unfold L_X10_plan_120 lfF
  by_cases q : o < v + 1
  · obtain ⟨m, hm⟩ := it_FU (body := fun rec' st => B_X10_plan_120 rec M (nI n) x w (e1 o) x5 (nI v) rec' st.1 st.2) (fun i => (hv σ (fy F (M + 15) i (fun j => F (M + 14) j)), nI i)) 0 n (by omega) (by omega) (fun i _ hi rec' => by
      have e14 : fy F (M + 15) i (fun j => F (M + 14) j) (M + 14) i = F (M + 14) i := fy_off (by omega)
      show B_X10_plan_120 rec M (nI n) x w (e1 o) x5 (nI v) rec' (hv σ (fy F (M + 15) i (fun j => F (M + 14) j))) (nI i) = rec' (hv σ (fy F (M + 15) (i + 1) (fun j => F (M + 14) j)), nI (i + 1))
      rw [← fy_grow]
      generalize fy F (M + 15) i (fun j => F (M + 14) j) = F1 at e14
      simp (decide := true) (disch := omega) only [B_X10_plan_120, gd_hv s.1, gI_hv s.1, pI_hv s.1, s.R17, s.A17, s.W17, s.R18, s.A18, s.W18, b1_some, b2_some, litI, neg1, nI_add, nI_mul, e1_p1, nI_e0, ib, ib1, ite_not, if_true, if_false, not_true_eq_false, not_false_eq_true, setI_hv, le_lit, nI_le_e1, show ¬ n ≤ i by omega, show ¬ v < o by omega, e14])
    rw [fy_0] at hm
    refine hm.trans ?_
    rw [if_pos q, if_pos q]
    simp (decide := true) (disch := omega) only [B_X10_plan_120, F_X10_plan_153, b1_some, b2_some, litI, neg1, nI_add, nI_mul, e1_p1, nI_e0, ib, ib1, ite_not, if_true, if_false, not_true_eq_false, not_false_eq_true, setI_hv, le_lit, nI_le_e1, Nat.le_refl, show ¬ v < o by omega, e1_s]
  · obtain ⟨m, hm⟩ := it_FU (body := fun rec' st => B_X10_plan_120 rec M (nI n) x w (e1 o) x5 (nI v) rec' st.1 st.2) (fun k => (hv σ F, nI 0)) 0 0 (by omega) (by omega) (fun k _ hk rec => by omega)
    refine hm.trans ?_
    rw [if_neg q, if_neg q]
    by_cases z : n = 0
    · simp (decide := true) (disch := omega) only [B_X10_plan_120, F_X10_plan_153, b1_some, b2_some, litI, neg1, nI_add, nI_mul, e1_p1, nI_e0, ib, ib1, ite_not, if_true, if_false, not_true_eq_false, not_false_eq_true, setI_hv, le_lit, nI_le_e1, z, show v < o by omega, Nat.le_refl]
    · simp (decide := true) (disch := omega) only [B_X10_plan_120, F_X10_plan_153, b1_some, b2_some, litI, neg1, nI_add, nI_mul, e1_p1, nI_e0, ib, ib1, ite_not, if_true, if_false, not_true_eq_false, not_false_eq_true, setI_hv, le_lit, nI_le_e1, show ¬ n ≤ 0 by omega, show v < o by omega]
/-- the walk of the tree: where it is, what is behind -/
def PI (M : Nat) (σ : Hp) (f : Nat → Nat → Int32) (S : St) (x : Int32) (n m : Nat) (st : Hp × Int32 × Int32) : Prop := ∃ F, RepM M (hv σ F) S ∧ (∀ a j, a < M ∨ M + 26 ≤ a → F a j = f a j) ∧
  ((∃ c d, d < n ∧ (∀ i, i < d → c i ≤ 8) ∧ c d ≤ 9 ∧ m = mt n c d ∧ st = (hv σ F, e1 (pk S x n (num 9 c (d + 1) * 9 ^ (n - 1 - d))).1, nI d) ∧ (∀ i, i < d → F (M + 14) i = nI (c i)) ∧ F (M + 14) d = e1 (c d) ∧ (∀ i, i < d → gne S x i (c i)) ∧ RowsAt M F S c d ∧ BestAt M F n (pk S x n (num 9 c (d + 1) * 9 ^ (n - 1 - d))).2) ∨
   (m = 0 ∧ st = (hv σ F, e1 (pk S x n (9 ^ n)).1, e1 0) ∧ BestAt M F n (pk S x n (9 ^ n)).2))
/-- where it ends -/
def PD (M : Nat) (σ : Hp) (f : Nat → Nat → Int32) (S : St) (x : Int32) (n : Nat) (st : Hp × Int32 × Int32) : Prop := ∃ F, RepM M (hv σ F) S ∧ (∀ a j, a < M ∨ M + 26 ≤ a → F a j = f a j) ∧ st = (hv σ F, e1 (pk S x n (9 ^ n)).1, e1 0) ∧ BestAt M F n (pk S x n (9 ^ n)).2
theorem pi_step {M : Nat} {σ : Hp} {f : Nat → Nat → Int32} {S : St} (g : Good S) {x w : Int32} {n : Nat} (h1 : 1 ≤ n) (hn : n ≤ 4) (m : Nat) (st : Hp × Int32 × Int32) (hp : PI M σ f S x n m st) : PD M σ f S x n st ∨ ∃ m' st', m' < m ∧ PI M σ f S x n m' st' ∧ ∀ rec, B_X10_plan_39 M (nI n) x w rec st.1 st.2.1 st.2.2 = rec st' := by
  obtain ⟨F, rp, off, hq⟩ := hp
  rcases hq with ⟨c, d, hd, hc, hcd, em, es, k1, k2, k3, k4, k5⟩ | ⟨em, es, k5⟩
  case inr => exact Or.inl ⟨F, rp, off, es, k5⟩
  right
  have s : SM M σ := rp.1
  subst es
  have pb := pk_b g x n (num 9 c (d + 1) * 9 ^ (n - 1 - d))
  have r1 : RepM M (hv σ (u2 F (M + 14) d (nI (c d)))) S := rp.sa 14 (by omega) (fun a j ha => u2_n (by omega))
  by_cases q9 : c d = 9
  · -- all of this level are behind
    cases d with
    | zero =>
      have eP : num 9 c (0 + 1) * 9 ^ (n - 1 - 0) = 9 ^ n := by
        show (9 * 0 + c 0) * 9 ^ (n - 1 - 0) = 9 ^ n
        rw [q9, show (9 : Nat) * 0 + 9 = 9 by omega, Nat.mul_comm, ← Nat.pow_succ]
        exact congrArg (fun k => 9 ^ k) (by omega)
      refine ⟨0, (hv σ (u2 F (M + 14) 0 (nI (c 0))), e1 (pk S x n (9 ^ n)).1, e1 0), by rw [em]; exact mt_pos (by omega), ⟨_, r1, fun a j ha => (u2_n (by omega)).trans (off a j ha), Or.inr ⟨rfl, rfl, fun z i hi => (u2_n (by omega)).trans (by rw [eP] at k5; exact k5 z i hi)⟩⟩, fun rec => ?_⟩
      rw [eP]
      rw [q9] at k2 ⊢
      simp (decide := true) (disch := omega) only [B_X10_plan_39, gd_hv s.1, gI_hv s.1, pI_hv s.1, s.R17, s.A17, s.W17, b1_some, b2_some, litI, neg1, nI_add, nI_mul, e1_p1, nI_e0, ib, ib1, ite_not, if_true, if_false, not_true_eq_false, not_false_eq_true, setI_hv, lt_lit, le_lit, show ¬ 0 < 0 by omega, k2, u2_e, nI_e]
    | succ d =>
      have hcd' := hc d (by omega)
      have eP := num_back (b := 9) (n := n) (c := c) hd q9
      refine ⟨mt n (up c d (c d + 1)) d, (hv σ (u2 F (M + 14) (d + 1) (nI (c (d + 1)))), e1 (pk S x n (num 9 (up c d (c d + 1)) (d + 1) * 9 ^ (n - 1 - d))).1, nI d), by rw [em]; exact mt_back (by omega) (by omega), ⟨_, r1, fun a j ha => (u2_n (by omega)).trans (off a j ha), Or.inl ⟨up c d (c d + 1), d, by omega, fun i hi => by rw [up_n (by omega)]; exact hc i (by omega), by rw [up_e]; omega, rfl, rfl, fun i hi => ?_, ?_, fun i hi => by rw [up_n (by omega)]; exact k3 i (by omega), ?_, ?_⟩⟩, fun rec => ?_⟩
      · rw [u2_n (by omega), up_n (by omega)]
        exact k1 i (by omega)
      · rw [u2_n (by omega), up_e, e1_s]
        exact k1 d (by omega)
      · refine RowsAt.cg (p := c) (fun i hi => ?_) (fun j hj => (up_n (by omega)).symm)
        exact RowsAt.fr k4 (fun a j ha => u2_n (by omega)) i (by omega)
      · rw [eP]
        exact fun z i hi => (u2_n (by omega)).trans (k5 z i hi)
      · rw [eP]
        rw [q9] at k2 ⊢
        generalize e1 (pk S x n (num 9 c (d + 1 + 1) * 9 ^ (n - 1 - (d + 1)))).1 = y
        simp (decide := true) (disch := omega) only [B_X10_plan_39, gd_hv s.1, gI_hv s.1, pI_hv s.1, s.R17, s.A17, s.W17, b1_some, b2_some, litI, neg1, nI_add, nI_mul, e1_p1, nI_e0, ib, ib1, ite_not, if_true, if_false, not_true_eq_false, not_false_eq_true, setI_hv, lt_lit, le_lit, show ¬ d + 1 < 0 by omega, k2, u2_e, nI_e, e1_s]
  · have hc8 : c d ≤ 8 := by omega
    have ra : RowsAt M (u2 F (M + 14) d (nI (c d))) S c d := RowsAt.fr k4 (fun a j ha => u2_n (by omega))
    obtain ⟨F2, t1, t2, t3, t4, t5⟩ := m_step g r1 (k := d) (x := x) (p := c) (by omega) hc8 ra
    have c14 : ∀ i, i < d → F2 (M + 14) i = nI (c i) := fun i hi => (t2 _ _ (by omega) (by omega) (by omega)).trans ((u2_n (by omega)).trans (k1 i hi))
    have c14d : F2 (M + 14) d = nI (c d) := (t2 _ _ (by omega) (by omega) (by omega)).trans u2_e
    have b15 : ∀ i, F2 (M + 15) i = F (M + 15) i := fun i => (t2 _ _ (by omega) (by omega) (by omega)).trans (u2_n (by omega))
    have o2 : ∀ a j, a < M ∨ M + 26 ≤ a → F2 a j = f a j := fun a j ha => (t2 _ _ (by omega) (by omega) (by omega)).trans ((u2_n (by omega)).trans (off a j ha))
    have pw : 0 < 9 ^ (n - 1 - d) := Nat.pow_pos (by omega)
    have dig : ∀ r, r < 9 ^ (n - 1 - d) → ∀ i, i ≤ d → dgb 9 n (num 9 c (d + 1) * 9 ^ (n - 1 - d) + r) i = c i := fun r hr i hi => dgb_num (fun k hk => by
      by_cases z : k = d
      · rw [z]; omega
      · have := hc k (by omega); omega) hd hr hi
    by_cases gn : gne S x d (c d)
    · rw [if_pos gn] at t1
      have ra' := t4 gn
      by_cases qn : d + 1 = n
      · -- a leaf
        have al := m_all g (F := u2 F2 (M + 14) (d + 1) (e1 0)) (t5.sa 14 (by omega) (fun a j ha => u2_n (by omega))) (n := n) (K := (lvs S c n).1) hn (fun k hk => by
          rw [u2_n (by omega)]
          rw [qn] at ra'
          exact (ra' n (Nat.le_refl _) k hk).1)
        have z0 : n - 1 - d = 0 := by omega
        have eP : num 9 c (d + 1) * 9 ^ (n - 1 - d) = num 9 c (d + 1) := by rw [z0, Nat.pow_zero, Nat.mul_one]
        have eP' : num 9 (up c d (c d + 1)) (d + 1) * 9 ^ (n - 1 - d) = num 9 c (d + 1) + 1 := by rw [num_stay, z0, Nat.pow_zero, Nat.mul_one]
        have sl := sts_le (T := S.2 9) (fun k hk => (lvs_b g c n k hk).1)
        have ev : svp S x n (num 9 c (d + 1)) = sts (S.2 9) (lvs S c n).1 + 1 := by
          unfold svp
          rw [sbv_cg (q := c) (fun k hk => by
            have := dig 0 pw k (by omega)
            rw [eP] at this
            exact this)]
          exact if_pos (fun k hk => by
            by_cases z : k = d
            · rw [z]; exact gn
            · exact k3 k (by omega))
        rw [eP] at pb k5
        obtain ⟨v, hv'⟩ : ∃ v, v = sts (S.2 9) (lvs S c n).1 := ⟨_, rfl⟩
        rw [← hv'] at al sl ev
        obtain ⟨o, ho⟩ : ∃ o, o = (pk S x n (num 9 c (d + 1))).1 := ⟨_, rfl⟩
        have lf := fun rec => m_leaf (M := M) (σ := σ) (F := u2 F2 (M + 14) (d + 1) (e1 0)) s (n := n) (o := o) (v := v) (x := x) (w := w) (x5 := nI (d + 1)) hn (by omega) (by omega) rec
        have rL : RepM M (hv σ (lfF M n o v (u2 F2 (M + 14) (d + 1) (e1 0)))) S := (t5.sa (f' := u2 F2 (M + 14) (d + 1) (e1 0)) 14 (by omega) (fun a j ha => u2_n (by omega))).sa 15 (by omega) (fun a j ha => lf_off ha)
        have ps : pk S x n (num 9 c (d + 1) + 1) = if o < v + 1 then (v + 1, num 9 c (d + 1) + 1) else pk S x n (num 9 c (d + 1)) := by
          rw [pk_s, ev, ho]
        refine ⟨mt n (up c d (c d + 1)) d, (hv σ (lfF M n o v (u2 F2 (M + 14) (d + 1) (e1 0))), e1 (pk S x n (num 9 (up c d (c d + 1)) (d + 1) * 9 ^ (n - 1 - d))).1, nI d), by rw [em]; exact mt_stay (by omega), ⟨_, rL, fun a j ha => ?_, Or.inl ⟨up c d (c d + 1), d, hd, fun i hi => by rw [up_n (by omega)]; exact hc i hi, by rw [up_e]; omega, rfl, rfl, fun i hi => ?_, ?_, fun i hi => by rw [up_n (by omega)]; exact k3 i hi, ?_, ?_⟩⟩, fun rec => ?_⟩
        · rw [lf_off (by omega), u2_n (by omega)]
          exact o2 a j ha
        · rw [lf_off (by omega), u2_n (by omega), up_n (by omega)]
          exact c14 i hi
        · rw [lf_off (by omega), u2_n (by omega), up_e, e1_s]
          exact c14d
        · refine RowsAt.cg (p := c) (RowsAt.fr t3 (fun a j ha => ?_)) (fun j hj => (up_n (by omega)).symm)
          rw [lf_off (by omega), u2_n (by omega)]
        · rw [eP', ps]
          intro z i hi
          unfold lfF
          by_cases q : o < v + 1
          · rw [if_pos q, if_pos q, fy_rd hi]
            have e := dig 0 pw i (by omega)
            rw [eP] at e
            show u2 F2 (M + 14) (d + 1) (e1 0) (M + 14) i = nI (dgb 9 n (num 9 c (d + 1) + 1 - 1) i)
            rw [Nat.add_sub_cancel, u2_n (by omega)]
            have e' : dgb 9 n (num 9 c (d + 1)) i = c i := e
            rw [e']
            by_cases zi : i = d
            · rw [zi]; exact c14d
            · exact c14 i (by omega)
          · rw [if_neg q] at z ⊢
            rw [if_neg q, u2_n (by omega), b15]
            exact k5 z i hi
        · have e5 : e1 (pk S x n (num 9 (up c d (c d + 1)) (d + 1) * 9 ^ (n - 1 - d))).1 = e1 (if o < v + 1 then v + 1 else o) := by
            rw [eP', ps]
            by_cases q : o < v + 1
            · rw [if_pos q, if_pos q]
            · rw [if_neg q, if_neg q, ho]
          rw [e5, eP, ← ho]
          have e6 : nI (d + 1) + e1 0 = nI d := by rw [nI_e, e1_s]
          have lf' := lf rec
          rw [e6] at lf'
          rw [← lf']
          have al' := al
          rw [← qn] at al' ⊢
          simp (decide := true) (disch := omega) only [B_X10_plan_39, gd_hv s.1, gI_hv s.1, pI_hv s.1, s.R17, s.A17, s.W17, b1_some, b2_some, litI, neg1, nI_add, nI_mul, e1_p1, nI_e0, ib, ib1, ite_not, if_true, if_false, not_true_eq_false, not_false_eq_true, setI_hv, lt_lit, le_lit, eq_lit, show ¬ d < 0 by omega, hc8, k2, u2_e, t1, al']
      · -- one level further
        have eP := num_down (b := 9) (n := n) (c := c) (d := d) (by omega)
        refine ⟨mt n (up c (d + 1) 0) (d + 1), (hv σ (u2 F2 (M + 14) (d + 1) (e1 0)), e1 (pk S x n (num 9 (up c (d + 1) 0) (d + 1 + 1) * 9 ^ (n - 1 - (d + 1)))).1, nI (d + 1)), by rw [em]; exact mt_down (by omega) hd, ⟨_, t5.sa 14 (by omega) (fun a j ha => u2_n (by omega)), fun a j ha => (u2_n (by omega)).trans (o2 a j ha), Or.inl ⟨up c (d + 1) 0, d + 1, by omega, fun i hi => ?_, by rw [up_e]; omega, rfl, rfl, fun i hi => ?_, ?_, fun i hi => ?_, ?_, ?_⟩⟩, fun rec => ?_⟩
        · rw [up_n (by omega)]
          by_cases z : i = d
          · rw [z]; exact hc8
          · exact hc i (by omega)
        · rw [u2_n (by omega), up_n (by omega)]
          by_cases z : i = d
          · rw [z]; exact c14d
          · exact c14 i (by omega)
        · rw [u2_e, up_e]
        · rw [up_n (by omega)]
          by_cases z : i = d
          · rw [z]; exact gn
          · exact k3 i (by omega)
        · exact RowsAt.cg (p := c) (RowsAt.fr ra' (fun a j ha => u2_n (by omega))) (fun j hj => (up_n (by omega)).symm)
        · rw [eP]
          intro z i hi
          show u2 F2 (M + 14) (d + 1) (e1 0) (M + 15) i = _
          rw [u2_n (by omega), b15]
          exact k5 z i hi
        · rw [eP]
          generalize e1 (pk S x n (num 9 c (d + 1) * 9 ^ (n - 1 - d))).1 = y
          simp (decide := true) (disch := omega) only [B_X10_plan_39, gd_hv s.1, gI_hv s.1, pI_hv s.1, s.R17, s.A17, s.W17, b1_some, b2_some, litI, neg1, nI_add, nI_mul, e1_p1, nI_e0, ib, ib1, ite_not, if_true, if_false, not_true_eq_false, not_false_eq_true, setI_hv, lt_lit, le_lit, eq_lit, show ¬ d < 0 by omega, hc8, k2, u2_e, t1, qn]
    · -- none of what begins so is gone
      rw [if_neg gn] at t1
      have eP' : num 9 (up c d (c d + 1)) (d + 1) * 9 ^ (n - 1 - d) = num 9 c (d + 1) * 9 ^ (n - 1 - d) + 9 ^ (n - 1 - d) := by
        rw [num_stay, Nat.succ_mul]
      have sk : pk S x n (num 9 c (d + 1) * 9 ^ (n - 1 - d) + 9 ^ (n - 1 - d)) = pk S x n (num 9 c (d + 1) * 9 ^ (n - 1 - d)) := fo_skip _ (fun k h1 h2 z => by
        rw [btp_t] at z
        have e : svp S x n k = 0 := by
          unfold svp
          refine if_neg (fun y => gn ?_)
          have e2 := dig (k - num 9 c (d + 1) * 9 ^ (n - 1 - d)) (by omega) d (Nat.le_refl _)
          rw [show num 9 c (d + 1) * 9 ^ (n - 1 - d) + (k - num 9 c (d + 1) * 9 ^ (n - 1 - d)) = k by omega] at e2
          have := y d hd
          rw [e2] at this
          exact this
        omega)
      refine ⟨mt n (up c d (c d + 1)) d, (hv σ F2, e1 (pk S x n (num 9 (up c d (c d + 1)) (d + 1) * 9 ^ (n - 1 - d))).1, nI d), by rw [em]; exact mt_stay (by omega), ⟨F2, t5, o2, Or.inl ⟨up c d (c d + 1), d, hd, fun i hi => by rw [up_n (by omega)]; exact hc i hi, by rw [up_e]; omega, rfl, rfl, fun i hi => ?_, ?_, fun i hi => by rw [up_n (by omega)]; exact k3 i hi, ?_, ?_⟩⟩, fun rec => ?_⟩
      · rw [up_n (by omega)]
        exact c14 i hi
      · rw [up_e, e1_s]
        exact c14d
      · exact RowsAt.cg (p := c) t3 (fun j hj => (up_n (by omega)).symm)
      · rw [eP', sk]
        intro z i hi
        rw [b15]
        exact k5 z i hi
      · rw [eP', sk]
        generalize e1 (pk S x n (num 9 c (d + 1) * 9 ^ (n - 1 - d))).1 = y
        simp (decide := true) (disch := omega) only [B_X10_plan_39, gd_hv s.1, gI_hv s.1, pI_hv s.1, s.R17, s.A17, s.W17, b1_some, b2_some, litI, neg1, nI_add, nI_mul, e1_p1, nI_e0, ib, ib1, ite_not, if_true, if_false, not_true_eq_false, not_false_eq_true, setI_hv, lt_lit, le_lit, eq_lit, show ¬ d < 0 by omega, hc8, k2, u2_e, t1]
theorem m_plan (M : Nat) (n x w : Int32) : OkMf M (fun σ => F_X10_plan σ M n x w) (oPlan n x w) := by
  intro σ f S g h
  have s : SM M σ := h.1
  rcases in_split n 1 4 (by omega) (by omega) with ⟨i, h1, hi, rfl⟩ | hk
  case inr =>
    have e : oPlan n x w S = (-3, S) := if_neg (fun z => hk z.1)
    rw [e]
    refine ⟨f, ?_, h, fun _ _ _ => rfl⟩
    show F_X10_plan (hv σ f) M n x w = some (-3, hv σ f)
    unfold F_X10_plan
    rw [gd_hv s.1, m_mins0 hk, b2_some]
    rfl
  by_cases qa : amn i x
  case neg =>
    have e : oPlan (nI i) x w S = (-3, S) := if_neg (fun z => qa (by have := z.2.1; rw [cl_I (by omega)] at this; exact this))
    rw [e]
    refine ⟨f, ?_, h, fun _ _ _ => rfl⟩
    show F_X10_plan (hv σ f) M (nI i) x w = some (-3, hv σ f)
    unfold F_X10_plan
    rw [gd_hv s.1, m_mins h1 hi, if_neg qa, b2_some]
    rfl
  by_cases qw : -1 ≤ w ∧ w ≤ nI i - 1
  case neg =>
    have e : oPlan (nI i) x w S = (-3, S) := if_neg (fun z => qw z.2.2)
    rw [e]
    refine ⟨f, ?_, h, fun _ _ _ => rfl⟩
    show F_X10_plan (hv σ f) M (nI i) x w = some (-3, hv σ f)
    unfold F_X10_plan
    rw [gd_hv s.1, m_mins h1 hi, if_pos qa, b2_some, if_neg (by decide : ¬ nI 1 = 0), x10_in, if_neg qw, b2_some]
    rfl
  have r0 := m_rows0 g h (fun _ => 0)
  obtain ⟨F0, hF0⟩ : ∃ F0, F0 = fz (fz f (M + 12) 48 (S.2 10)) (M + 13) 48 (S.2 12) := ⟨_, rfl⟩
  have L0 : F_X10_plan (hv σ f) M (nI i) x w = it (fun rec st => B_X10_plan_39 M (nI i) x w rec st.1 st.2.1 st.2.2) FU (hv σ (u2 F0 (M + 14) 0 (e1 0)), e1 0, nI 0) := by
    unfold F_X10_plan
    rw [gd_hv s.1, m_mins h1 hi, if_pos qa, b2_some, if_neg (by decide : ¬ nI 1 = 0), x10_in, if_pos qw, b2_some, if_neg (by decide : ¬ (1 : Int32) = 0), m_look g h, b1_some, ← hF0]
    simp (decide := true) (disch := omega) only [gd_hv s.1, gI_hv s.1, pI_hv s.1, s.R17, s.A17, s.W17, b1_some, b2_some, litI, neg1, nI_add, nI_mul, e1_p1, nI_e0, ib, ib1, ite_not, if_true, if_false, not_true_eq_false, not_false_eq_true, setI_hv]
    rfl
  rw [← hF0] at r0
  have n0 : num 9 (fun _ => 0) (0 + 1) * 9 ^ (i - 1 - 0) = 0 := by
    show (9 * 0 + 0) * _ = 0
    omega
  obtain ⟨st, r, ⟨F, rp, off, es, ba⟩, e⟩ := it_muF (body := fun rec st => B_X10_plan_39 M (nI i) x w rec st.1 st.2.1 st.2.2) (PI M σ f S x i) (PD M σ f S x i) (pi_step g h1 hi) (mt i (fun _ => 0) 0) (hv σ (u2 F0 (M + 14) 0 (e1 0)), e1 0, nI 0) ⟨_, r0.2.sa 14 (by omega) (fun a j ha => u2_n (by omega)), fun a j ha => by rw [u2_n (by omega), hF0, fz_off (by omega), fz_off (by omega)], Or.inl ⟨fun _ => 0, 0, by omega, fun i hi => by omega, Nat.zero_le 9, rfl, by rw [n0]; rfl, fun i hi => by omega, u2_e, fun i hi => by omega, RowsAt.fr r0.1 (fun a j ha => u2_n (by omega)), fun z => absurd (by rw [n0]; rfl) z⟩⟩ (mt_0 _ _ (by omega))
  subst es
  have pf := pk_full S x hi
  have eo : oPlan (nI i) x w S = (if w = -1 then e1 (pk S x i (9 ^ i)).1 else nI (dgb 9 i ((pk S x i (9 ^ i)).2 - 1) w.toNatClampNeg), S) := by
    unfold oPlan
    rw [cl_I (by omega)]
    exact if_pos ⟨inR_of h1 hi (by omega), qa, qw⟩
  rw [eo]
  refine ⟨F, ?_, rp, off⟩
  show F_X10_plan (hv σ f) M (nI i) x w = _
  rw [L0]
  refine Eq.trans e ?_
  obtain ⟨j, hj, ew⟩ := w_in (by omega) qw
  by_cases z : j = 0
  · rw [ew, z]
    simp (decide := true) (disch := omega) only [B_X10_plan_39, F_X10_plan_175, b1_some, b2_some, litI, neg1, nI_add, nI_mul, e1_p1, nI_e0, ib, ib1, ite_not, if_true, if_false, not_true_eq_false, not_false_eq_true, setI_hv, e1_lt, Nat.le_refl]
  · rw [ew, e1_of (by omega)]
    have e5 := ba pf (j - 1) (by omega)
    simp (decide := true) (disch := omega) only [B_X10_plan_39, F_X10_plan_175, gd_hv s.1, gI_hv s.1, pI_hv s.1, s.R18, s.A18, s.W18, b1_some, b2_some, litI, neg1, nI_add, nI_mul, e1_p1, nI_e0, ib, ib1, ite_not, if_true, if_false, not_true_eq_false, not_false_eq_true, setI_hv, e1_lt, Nat.le_refl, e5, cl_I]
