set_option maxRecDepth 100000
/-! pure law 26: pupils, joined -/
/-- the day that parts best of the first n days (none is 0, d + 1 is d) -/
def pbn (S : St) (p : Nat) : Nat → Nat
  | 0 => 0
  | n + 1 => if pbn S p n = 0 ∨ od S p (n + 1) < od S p (pbn S p n - 1) then n + 2 else pbn S p n
theorem pbn_b (S : St) (p : Nat) : ∀ n, pbn S p n ≤ n + 1 ∧ (0 < n → 2 ≤ pbn S p n)
  | 0 => ⟨Nat.zero_le _, fun h => absurd h (Nat.lt_irrefl 0)⟩
  | n + 1 => by
    have ih := pbn_b S p n
    unfold pbn
    by_cases q : pbn S p n = 0 ∨ od S p (n + 1) < od S p (pbn S p n - 1)
    · rw [if_pos q]
      omega
    · rw [if_neg q]
      have : ¬ n = 0 := fun z => q (Or.inl (by rw [z]; rfl))
      have := ih.2 (by omega)
      omega
theorem x_parts {N : Nat} {σ : Hp} {f : Nat → Nat → Int32} {S : St} (g : Good S) (h : RepX N (hv σ f) S) {p : Nat} (hp : p < 4) : F_X9_parts (hv σ f) (N + (233 + 3 * p)) = some (if mbn S p 81 = 0 then e1 0 else e1 (pbn S p 60), hv σ f) := by
  have s : SX N σ := h.1
  have mb := mbn_le S p 81
  have my := x_may g h hp
  unfold F_X9_parts L_X9_parts_4
  rw [s.PG hp]
  by_cases q0 : mbn S p 81 = 0
  · rw [if_pos q0]
    rw [q0] at my
    obtain ⟨m, hm⟩ := it_FU (body := fun rec st => B_X9_parts_4 (N + (233 + 3 * p)) rec st.1 st.2.1 st.2.2) (fun i => (hv σ f, e1 0, nI 1)) 0 0 (by omega) (by omega) (fun i _ hi rec => by omega)
    refine Eq.trans hm ?_
    simp (decide := true) (disch := omega) only [B_X9_parts_4, b1_some, b2_some, litI, neg1, nI_add, nI_mul, e1_p1, nI_e0, ib, ib1, ite_not, if_true, if_false, not_true_eq_false, not_false_eq_true, setI_hv, my, lt_lit, le_lit, Nat.le_refl]
  rw [if_neg q0]
  obtain ⟨m, hm⟩ := it_FU (body := fun rec st => B_X9_parts_4 (N + (233 + 3 * p)) rec st.1 st.2.1 st.2.2) (fun i => (hv σ f, e1 (pbn S p i), nI (i + 1))) 0 60 (by omega) (by omega) (fun i _ hi rec => by
    have pb := pbn_b S p i
    have o1 := od_le S p (i + 1)
    show B_X9_parts_4 (N + (233 + 3 * p)) rec (hv σ f) (e1 (pbn S p i)) (nI (i + 1)) = rec (hv σ f, e1 (pbn S p (i + 1)), nI (i + 1 + 1))
    by_cases q1 : pbn S p i = 0
    · have e : pbn S p (i + 1) = i + 2 := if_pos (Or.inl q1)
      rw [e, q1]
      simp (decide := true) (disch := omega) only [B_X9_parts_4, b1_some, b2_some, litI, neg1, nI_add, nI_mul, e1_p1, nI_e0, ib, ib1, ite_not, if_true, if_false, not_true_eq_false, not_false_eq_true, setI_hv, my, lt_lit, le_lit, show ¬ 60 < i + 1 by omega, show ¬ mbn S p 81 ≤ 0 by omega, e1_inj, e1_s]
    · have p2 : 0 < i := Nat.pos_of_ne_zero (fun z => q1 (by rw [z]; rfl))
      have p3 := pb.2 p2
      have u1 := x_unlike g h (d := i + 1) hp (by omega)
      have u2' := x_unlike g h (d := pbn S p i - 1) hp (by omega)
      have o2 := od_le S p (pbn S p i - 1)
      have e0 : e1 (pbn S p i) = nI (pbn S p i - 1) := e1_of (by omega)
      by_cases q2 : od S p (i + 1) < od S p (pbn S p i - 1)
      · have e : pbn S p (i + 1) = i + 2 := if_pos (Or.inr q2)
        rw [e, e0]
        simp (decide := true) (disch := omega) only [B_X9_parts_4, b1_some, b2_some, litI, neg1, nI_add, nI_mul, e1_p1, nI_e0, ib, ib1, ite_not, if_true, if_false, not_true_eq_false, not_false_eq_true, setI_hv, my, lt_lit, le_lit, show ¬ 60 < i + 1 by omega, show ¬ mbn S p 81 ≤ 0 by omega, u1, u2', show ¬ od S p (pbn S p i - 1) ≤ od S p (i + 1) by omega, e1_s]
      · have e : pbn S p (i + 1) = pbn S p i := if_neg (by omega)
        rw [e, e0]
        simp (decide := true) (disch := omega) only [B_X9_parts_4, b1_some, b2_some, litI, neg1, nI_add, nI_mul, e1_p1, nI_e0, ib, ib1, ite_not, if_true, if_false, not_true_eq_false, not_false_eq_true, setI_hv, my, lt_lit, le_lit, show ¬ 60 < i + 1 by omega, show ¬ mbn S p 81 ≤ 0 by omega, u1, u2', show od S p (pbn S p i - 1) ≤ od S p (i + 1) by omega])
  refine Eq.trans (b := it (fun rec st => B_X9_parts_4 (N + (233 + 3 * p)) rec st.1 st.2.1 st.2.2) FU (hv σ f, e1 (pbn S p 0), nI (0 + 1))) rfl (hm.trans ?_)
  simp (decide := true) (disch := omega) only [B_X9_parts_4, b1_some, b2_some, litI, neg1, nI_add, nI_mul, e1_p1, nI_e0, ib, ib1, ite_not, if_true, if_false, not_true_eq_false, not_false_eq_true, setI_hv, lt_lit]
/-- the least of the first n days -/
def lst (S : St) (p n : Nat) : Nat := if n = 0 then 1000 else od S p (pbn S p n - 1)
theorem lst_le (S : St) (p n : Nat) : lst S p n ≤ 1000 := by
  have := od_le S p (pbn S p n - 1)
  unfold lst
  split <;> omega
theorem m_parts {M : Nat} {σ : Hp} {f : Nat → Nat → Int32} {S : St} (g : Good S) (h : RepM M (hv σ f) S) {p : Nat} (hp : p < 4) : F_X10_partsMost (hv σ f) M (nI p) = some (if mbn S p 81 = 0 then e1 0 else e1 (pbn S p 60), hv σ f) := by
  have s : SM M σ := h.1
  have pm := g.pm hp
  have mb := mbn_le S p 81
  unfold F_X10_partsMost L_X10_partsMost_12
  rw [gd_hv s.1]
  obtain ⟨m, hm⟩ := it_FU (body := fun rec st => B_X10_partsMost_12 M (nI p) rec st.1 st.2.1 st.2.2.1 st.2.2.2.1 st.2.2.2.2) (fun i => (hv σ f, e1 (pbn S p i), nI (lst S p i), nI (mbn S p 81 * i), nI (i + 1))) 0 60 (by omega) (by omega) (fun i _ hi rec => by
    have pb := pbn_b S p i
    have mi : mbn S p 81 * i ≤ 81 * 60 := Nat.mul_le_mul mb (by omega)
    obtain ⟨m', hm'⟩ := it_FU (body := fun rec' st => B_X10_partsMost_25 rec M (nI p) (e1 (pbn S p i)) (nI (lst S p i)) (nI (i + 1)) rec' st.1 st.2.1 st.2.2.1 st.2.2.2) (fun t => (hv σ f, nI (mbn S p 81 * i + mbn S p t), nI (cps S p (i + 1) t) - nI (cns S p (i + 1) t), nI t)) 0 81 (by omega) (by omega) (fun t _ ht rec' => by
      have ag := m_agr g h (t := t) hp ht
      have al : agr S p (t / 9 + 1) (10 * (t % 9 + 1)) (S.2 35 p) ≤ S.2 35 p := agr_le S p _ _ _
      have r := x10_right (σ := hv σ f) (t := t) (d := i + 1) ht (by omega)
      show B_X10_partsMost_25 rec M (nI p) (e1 (pbn S p i)) (nI (lst S p i)) (nI (i + 1)) rec' (hv σ f) (nI (mbn S p 81 * i + mbn S p t)) (nI (cps S p (i + 1) t) - nI (cns S p (i + 1) t)) (nI t) = rec' (hv σ f, nI (mbn S p 81 * i + (mbn S p t + if agr S p (t / 9 + 1) (10 * (t % 9 + 1)) (S.2 35 p) = S.2 35 p then 1 else 0)), nI (cps S p (i + 1) t + if agr S p (t / 9 + 1) (10 * (t % 9 + 1)) (S.2 35 p) = S.2 35 p ∧ rgt (t / 9 + 1) (10 * (t % 9 + 1)) (i + 1) then 1 else 0) - nI (cns S p (i + 1) t + if agr S p (t / 9 + 1) (10 * (t % 9 + 1)) (S.2 35 p) = S.2 35 p ∧ ¬ rgt (t / 9 + 1) (10 * (t % 9 + 1)) (i + 1) then 1 else 0), nI (t + 1))
      generalize agr S p (t / 9 + 1) (10 * (t % 9 + 1)) (S.2 35 p) = A at ag al
      by_cases q : A = S.2 35 p
      · rw [if_pos q]
        by_cases q2 : rgt (t / 9 + 1) (10 * (t % 9 + 1)) (i + 1)
        · rw [if_pos q2] at r
          rw [if_pos ⟨q, q2⟩, if_neg (fun z => z.2 q2)]
          simp (decide := true) (disch := omega) only [B_X10_partsMost_25, F_X10_partsMost_53, F_X10_partsMost_67, gd_hv s.1, gI_hv s.1, pI_hv s.1, s.R35, s.A35, s.W35, b1_some, b2_some, litI, neg1, nI_add, nI_mul, e1_p1, nI_e0, ib, ib1, ite_not, if_true, if_false, not_true_eq_false, not_false_eq_true, setI_hv, h.a35, le_lit, eq_lit, show ¬ 81 ≤ t by omega, ag, q, r, sub_p1, Nat.add_zero, Nat.add_assoc]
        · rw [if_neg q2] at r
          rw [if_neg (fun z => q2 z.2), if_pos ⟨q, q2⟩]
          simp (decide := true) (disch := omega) only [B_X10_partsMost_25, F_X10_partsMost_53, F_X10_partsMost_67, gd_hv s.1, gI_hv s.1, pI_hv s.1, s.R35, s.A35, s.W35, b1_some, b2_some, litI, neg1, nI_add, nI_mul, e1_p1, nI_e0, ib, ib1, ite_not, if_true, if_false, not_true_eq_false, not_false_eq_true, setI_hv, h.a35, le_lit, eq_lit, show ¬ 81 ≤ t by omega, ag, q, r, sub_m1, Nat.add_zero, Nat.add_assoc]
      · rw [if_neg q, if_neg (fun z => q z.1), if_neg (fun z => q z.1)]
        simp (decide := true) (disch := omega) only [B_X10_partsMost_25, F_X10_partsMost_53, F_X10_partsMost_67, gd_hv s.1, gI_hv s.1, pI_hv s.1, s.R35, s.A35, s.W35, b1_some, b2_some, litI, neg1, nI_add, nI_mul, e1_p1, nI_e0, ib, ib1, ite_not, if_true, if_false, not_true_eq_false, not_false_eq_true, setI_hv, h.a35, le_lit, eq_lit, show ¬ 81 ≤ t by omega, ag, q, sub_z, Nat.add_zero, Nat.add_assoc])
    have lp : L_X10_partsMost_25 rec M (nI p) (e1 (pbn S p i)) (nI (lst S p i)) (nI (i + 1)) FU (hv σ f, nI (mbn S p 81 * i), nI 0, nI 0) = rec (hv σ f, e1 (pbn S p (i + 1)), nI (lst S p (i + 1)), nI (mbn S p 81 * (i + 1)), nI (i + 1 + 1)) := by
      refine Eq.trans (b := it (fun rec' st => B_X10_partsMost_25 rec M (nI p) (e1 (pbn S p i)) (nI (lst S p i)) (nI (i + 1)) rec' st.1 st.2.1 st.2.2.1 st.2.2.2) FU (hv σ f, nI (mbn S p 81 * i + mbn S p 0), nI (cps S p (i + 1) 0) - nI (cns S p (i + 1) 0), nI 0)) (by
        have e : nI 0 = nI (cps S p (i + 1) 0) - nI (cns S p (i + 1) 0) := by
          show nI 0 = nI 0 - nI 0
          decide
        rw [← e]
        rfl) (hm'.trans ?_)
      show B_X10_partsMost_25 rec M (nI p) (e1 (pbn S p i)) (nI (lst S p i)) (nI (i + 1)) m' (hv σ f) (nI (mbn S p 81 * i + mbn S p 81)) (nI (cps S p (i + 1) 81) - nI (cns S p (i + 1) 81)) (nI 81) = _
      have cl := cps_le S p (i + 1) 81
      have ol := od_le S p (i + 1)
      have ll := lst_le S p i
      have f105 : F_X10_partsMost_105 rec (hv σ f) M (nI p) (e1 (pbn S p i)) (nI (lst S p i)) (nI (mbn S p 81 * i + mbn S p 81)) (nI (i + 1)) (nI (cps S p (i + 1) 81) - nI (cns S p (i + 1) 81)) = F_X10_partsMost_118 rec (hv σ f) M (nI p) (e1 (pbn S p i)) (nI (lst S p i)) (nI (mbn S p 81 * i + mbn S p 81)) (nI (i + 1)) (nI (od S p (i + 1))) := by
        unfold F_X10_partsMost_105 od
        by_cases q : cns S p (i + 1) 81 ≤ cps S p (i + 1) 81
        · rw [if_pos q]
          simp (decide := true) (disch := omega) only [b1_some, b2_some, litI, neg1, nI_add, nI_mul, e1_p1, nI_e0, ib, ib1, ite_not, if_true, if_false, not_true_eq_false, not_false_eq_true, setI_hv, fade0, q, nI_sub, le_lit, Nat.zero_le]
        · rw [if_neg q]
          simp (decide := true) (disch := omega) only [b1_some, b2_some, litI, neg1, nI_add, nI_mul, e1_p1, nI_e0, ib, ib1, ite_not, if_true, if_false, not_true_eq_false, not_false_eq_true, setI_hv, fade0, q, neg_sub', nI_sub]
      have hcond : (od S p (i + 1) < lst S p i) = (pbn S p i = 0 ∨ od S p (i + 1) < od S p (pbn S p i - 1)) := by
        apply propext
        unfold lst
        by_cases z : i = 0
        · rw [if_pos z]
          constructor
          · intro _
            left
            rw [z]
            rfl
          · intro _
            omega
        · rw [if_neg z]
          have := pb.2 (by omega)
          omega
      have l1 : lst S p (i + 1) = od S p (pbn S p (i + 1) - 1) := if_neg (by omega)
      rw [Nat.mul_succ, l1]
      by_cases q : od S p (i + 1) < lst S p i
      · have e : pbn S p (i + 1) = i + 2 := if_pos (hcond ▸ q)
        rw [e]
        simp (decide := true) (disch := omega) only [B_X10_partsMost_25, f105, F_X10_partsMost_118, b1_some, b2_some, litI, neg1, nI_add, nI_mul, e1_p1, nI_e0, ib, ib1, ite_not, if_true, if_false, not_true_eq_false, not_false_eq_true, setI_hv, le_lit, Nat.le_refl, show ¬ lst S p i ≤ od S p (i + 1) by omega, e1_s, show i + 2 - 1 = i + 1 by omega]
      · have e : pbn S p (i + 1) = pbn S p i := if_neg (hcond ▸ q)
        have l2 : lst S p i = od S p (pbn S p i - 1) := by
          refine if_neg (fun z => q ?_)
          unfold lst
          rw [if_pos z]
          omega
        rw [e, ← l2]
        simp (decide := true) (disch := omega) only [B_X10_partsMost_25, f105, F_X10_partsMost_118, b1_some, b2_some, litI, neg1, nI_add, nI_mul, e1_p1, nI_e0, ib, ib1, ite_not, if_true, if_false, not_true_eq_false, not_false_eq_true, setI_hv, le_lit, Nat.le_refl, show lst S p i ≤ od S p (i + 1) by omega]
    show B_X10_partsMost_12 M (nI p) rec (hv σ f) (e1 (pbn S p i)) (nI (lst S p i)) (nI (mbn S p 81 * i)) (nI (i + 1)) = rec (hv σ f, e1 (pbn S p (i + 1)), nI (lst S p (i + 1)), nI (mbn S p 81 * (i + 1)), nI (i + 1 + 1))
    rw [← lp]
    simp (decide := true) (disch := omega) only [B_X10_partsMost_12, b1_some, b2_some, litI, neg1, nI_add, nI_mul, e1_p1, nI_e0, ib, ib1, ite_not, if_true, if_false, not_true_eq_false, not_false_eq_true, setI_hv, le_lit, show ¬ 61 ≤ i + 1 by omega])
  refine Eq.trans (b := it (fun rec st => B_X10_partsMost_12 M (nI p) rec st.1 st.2.1 st.2.2.1 st.2.2.2.1 st.2.2.2.2) FU (hv σ f, e1 (pbn S p 0), nI (lst S p 0), nI (mbn S p 81 * 0), nI (0 + 1))) rfl (hm.trans ?_)
  have m60 : mbn S p 81 * 60 ≤ 81 * 60 := Nat.mul_le_mul mb (by omega)
  by_cases q : mbn S p 81 = 0
  · simp (decide := true) (disch := omega) only [B_X10_partsMost_12, F_X10_partsMost_152, b1_some, b2_some, litI, neg1, nI_add, nI_mul, e1_p1, nI_e0, ib, ib1, ite_not, if_true, if_false, not_true_eq_false, not_false_eq_true, setI_hv, le_lit, Nat.le_refl, q, Nat.zero_mul]
  · simp (decide := true) (disch := omega) only [B_X10_partsMost_12, F_X10_partsMost_152, b1_some, b2_some, litI, neg1, nI_add, nI_mul, e1_p1, nI_e0, ib, ib1, ite_not, if_true, if_false, not_true_eq_false, not_false_eq_true, setI_hv, le_lit, Nat.le_refl, q, eq_lit, show ¬ mbn S p 81 * 60 = 0 by omega]
def oPupil (p w : Int32) (S : St) : Int32 × St := if inR p 0 3 then (if w = nI 0 then nI (mbn S p.toNatClampNeg 81) else if w = nI 1 then nI (bxn S p.toNatClampNeg 81) else if w = nI 2 then e1 (lkt S p.toNatClampNeg 81).2 else if w = nI 3 then (if mbn S p.toNatClampNeg 81 = 0 then e1 0 else e1 (pbn S p.toNatClampNeg 60)) else -3, S) else (-2, S)
theorem x_pupil (N : Nat) (p w : Int32) : OkXf N (fun σ => F_X0_pupil σ N p w) (oPupil p w) := by
  intro σ f S g h
  have s : SX N σ := h.1
  simp only [F_X0_pupil, oPupil, gd_hv s.t0, x0_isPupil, b2_some]
  rcases in_split p 0 3 (by omega) (by omega) with ⟨i, -, hi, rfl⟩ | hk
  case inr => simp (decide := true) (disch := omega) only [b1_some, b2_some, litI, neg1, nI_add, nI_mul, e1_p1, nI_e0, ib, ib1, ite_not, if_true, if_false, not_true_eq_false, not_false_eq_true, setI_hv, hk]; exact ⟨_, rfl, h, fun _ _ _ => rfl⟩
  have qi := eq_true (inR_of (Nat.zero_le i) hi (by omega))
  have hp : i < 4 := by omega
  have lb := lkt_b g hp 81
  have lb2 := lb.2.2 (by decide)
  have bx : bxn S i 81 = 100 * ((lkt S i 81).1 / 9 + 1) + 10 * ((lkt S i 81).1 % 9 + 1) := if_neg (by decide)
  have d1 : nI (bxn S i 81) / nI 100 = nI ((lkt S i 81).1 / 9 + 1) := by
    rw [pk_div (by omega) (by omega) (by omega)]
    exact congrArg nI (by omega)
  have d2 : nI (bxn S i 81) - nI (((lkt S i 81).1 / 9 + 1) * 100) = nI (10 * ((lkt S i 81).1 % 9 + 1)) := by
    rw [nI_sub (by omega)]
    exact congrArg nI (by omega)
  have ag := x_agr g h (a := (lkt S i 81).1 / 9 + 1) (l := 10 * ((lkt S i 81).1 % 9 + 1)) hp (by omega) (by omega)
  have e2 : nI (agr S i ((lkt S i 81).1 / 9 + 1) (10 * ((lkt S i 81).1 % 9 + 1)) (S.2 35 i)) = e1 (lkt S i 81).2 := by
    rw [lb2.2, e1_s]
    rfl
  rw [e2] at ag
  simp (decide := true) (disch := omega) only [gd_hv s.t0, gI_hv s.t0, pI_hv s.t0, s.R21, s.P, b1_some, b2_some, litI, neg1, nI_add, nI_mul, e1_p1, nI_e0, ib, ib1, ite_not, if_true, if_false, not_true_eq_false, not_false_eq_true, setI_hv, qi, cl_I, x_may g h hp, x_likl g h hp, x_parts g h hp, d1, d2, ag]
  refine ⟨f, ?_, h, fun _ _ _ => rfl⟩
  repeat' split
  all_goals rfl
theorem m_pupil (M : Nat) (p w : Int32) : OkMf M (fun σ => F_X10_pupil σ M p w) (oPupil p w) := by
  intro σ f S g h
  have s : SM M σ := h.1
  simp only [F_X10_pupil, oPupil, gd_hv s.1, x10_isPupil, b2_some]
  rcases in_split p 0 3 (by omega) (by omega) with ⟨i, -, hi, rfl⟩ | hk
  case inr => simp (decide := true) (disch := omega) only [b1_some, b2_some, litI, neg1, nI_add, nI_mul, e1_p1, nI_e0, ib, ib1, ite_not, if_true, if_false, not_true_eq_false, not_false_eq_true, setI_hv, hk]; exact ⟨_, rfl, h, fun _ _ _ => rfl⟩
  have qi := eq_true (inR_of (Nat.zero_le i) hi (by omega))
  have hp : i < 4 := by omega
  have pm := g.pm hp
  have lb := lkt_b g hp 81
  have lb2 := lb.2.2 (by decide)
  have bx : bxn S i 81 = 100 * ((lkt S i 81).1 / 9 + 1) + 10 * ((lkt S i 81).1 % 9 + 1) := if_neg (by decide)
  have d1 : nI (lkt S i 81).1 / nI 9 = nI ((lkt S i 81).1 / 9) := pk_div (by omega) (by omega) (by omega)
  have d2 : nI (lkt S i 81).1 - nI ((lkt S i 81).1 / 9 * 9) = nI ((lkt S i 81).1 % 9) := by
    rw [nI_sub (by omega)]
    exact congrArg nI (by omega)
  simp (decide := true) (disch := omega) only [b1_some, b2_some, litI, neg1, nI_add, nI_mul, e1_p1, nI_e0, ib, ib1, ite_not, if_true, if_false, not_true_eq_false, not_false_eq_true, setI_hv, qi, cl_I]
  refine ⟨f, ?_, h, fun _ _ _ => rfl⟩
  rcases in_split w 0 3 (by omega) (by omega) with ⟨j, -, hj, rfl⟩ | hk
  case inr =>
    have n0 : ¬ w = nI 0 := fun z => hk (z ▸ inR_of (by omega) (by omega) (by omega))
    have n1 : ¬ w = nI 1 := fun z => hk (z ▸ inR_of (by omega) (by omega) (by omega))
    have n2 : ¬ w = nI 2 := fun z => hk (z ▸ inR_of (by omega) (by omega) (by omega))
    have n3 : ¬ w = nI 3 := fun z => hk (z ▸ inR_of (by omega) (by omega) (by omega))
    have ink : F_X10_in (hv σ f) w (nI 0) (nI 3) = some (nI 0, hv σ f) := by
      rw [x10_inR (hv σ f) w (nI 0) (nI 3) 0 3 rfl rfl, if_neg hk]
      rfl
    simp (decide := true) (disch := omega) only [b1_some, b2_some, litI, neg1, nI_add, nI_mul, e1_p1, nI_e0, ib, ib1, ite_not, if_true, if_false, not_true_eq_false, not_false_eq_true, setI_hv, ink, n0, n1, n2, n3]
  have qj := eq_true (inR_of (Nat.zero_le j) hj (by omega))
  have inj : F_X10_in (hv σ f) (nI j) (nI 0) (nI 3) = some (nI 1, hv σ f) := by
    rw [x10_inR (hv σ f) (nI j) (nI 0) (nI 3) 0 3 rfl rfl, if_pos (inR_of (Nat.zero_le j) hj (by omega))]
    rfl
  have lp : L_X10_pupil_33 M (nI i) (nI j) FU (hv σ f, nI 0, nI 0, e1 0, nI 0) = F_X10_pupil_106 (hv σ f) M (nI i) (nI j) (nI (mbn S i 81)) (nI (lkt S i 81).1) (e1 (lkt S i 81).2) := by
    unfold L_X10_pupil_33
    obtain ⟨m, hm⟩ := it_FU (body := fun rec st => B_X10_pupil_33 M (nI i) (nI j) rec st.1 st.2.1 st.2.2.1 st.2.2.2.1 st.2.2.2.2) (fun t => (hv σ f, nI (mbn S i t), nI (lkt S i t).1, e1 (lkt S i t).2, nI t)) 0 81 (by omega) (by omega) (fun t _ ht rec => by
      have ag := m_agr g h (t := t) hp ht
      have al : agr S i (t / 9 + 1) (10 * (t % 9 + 1)) (S.2 35 i) ≤ S.2 35 i := agr_le S i _ _ _
      have lt := lkt_b g hp t
      have em : mbn S i (t + 1) = mbn S i t + if agr S i (t / 9 + 1) (10 * (t % 9 + 1)) (S.2 35 i) = S.2 35 i then 1 else 0 := rfl
      have el : lkt S i (t + 1) = if (lkt S i t).2 ≤ agr S i (t / 9 + 1) (10 * (t % 9 + 1)) (S.2 35 i) then (t, agr S i (t / 9 + 1) (10 * (t % 9 + 1)) (S.2 35 i) + 1) else lkt S i t := rfl
      show B_X10_pupil_33 M (nI i) (nI j) rec (hv σ f) (nI (mbn S i t)) (nI (lkt S i t).1) (e1 (lkt S i t).2) (nI t) = rec (hv σ f, nI (mbn S i (t + 1)), nI (lkt S i (t + 1)).1, e1 (lkt S i (t + 1)).2, nI (t + 1))
      rw [em, el]
      generalize agr S i (t / 9 + 1) (10 * (t % 9 + 1)) (S.2 35 i) = A at ag al
      by_cases q : A = S.2 35 i <;> by_cases q2 : (lkt S i t).2 ≤ A
      · rw [if_pos q, if_pos q2]
        rw [q] at q2
        simp (decide := true) (disch := omega) only [B_X10_pupil_33, F_X10_pupil_66, gd_hv s.1, gI_hv s.1, pI_hv s.1, s.R35, s.A35, s.W35, b1_some, b2_some, litI, neg1, nI_add, nI_mul, e1_p1, nI_e0, ib, ib1, ite_not, if_true, if_false, not_true_eq_false, not_false_eq_true, setI_hv, h.a35, le_lit, eq_lit, show ¬ 81 ≤ t by omega, ag, q, nI_le_e1, show ¬ S.2 35 i < (lkt S i t).2 by omega, e1_s]
      · rw [if_pos q, if_neg q2]
        rw [q] at q2
        simp (decide := true) (disch := omega) only [B_X10_pupil_33, F_X10_pupil_66, gd_hv s.1, gI_hv s.1, pI_hv s.1, s.R35, s.A35, s.W35, b1_some, b2_some, litI, neg1, nI_add, nI_mul, e1_p1, nI_e0, ib, ib1, ite_not, if_true, if_false, not_true_eq_false, not_false_eq_true, setI_hv, h.a35, le_lit, eq_lit, show ¬ 81 ≤ t by omega, ag, q, nI_le_e1, show S.2 35 i < (lkt S i t).2 by omega]
      · rw [if_neg q, if_pos q2]
        simp (decide := true) (disch := omega) only [B_X10_pupil_33, F_X10_pupil_66, gd_hv s.1, gI_hv s.1, pI_hv s.1, s.R35, s.A35, s.W35, b1_some, b2_some, litI, neg1, nI_add, nI_mul, e1_p1, nI_e0, ib, ib1, ite_not, if_true, if_false, not_true_eq_false, not_false_eq_true, setI_hv, h.a35, le_lit, eq_lit, show ¬ 81 ≤ t by omega, ag, q, nI_le_e1, show ¬ A < (lkt S i t).2 by omega, e1_s, Nat.add_zero]
      · rw [if_neg q, if_neg q2]
        simp (decide := true) (disch := omega) only [B_X10_pupil_33, F_X10_pupil_66, gd_hv s.1, gI_hv s.1, pI_hv s.1, s.R35, s.A35, s.W35, b1_some, b2_some, litI, neg1, nI_add, nI_mul, e1_p1, nI_e0, ib, ib1, ite_not, if_true, if_false, not_true_eq_false, not_false_eq_true, setI_hv, h.a35, le_lit, eq_lit, show ¬ 81 ≤ t by omega, ag, q, nI_le_e1, show A < (lkt S i t).2 by omega, Nat.add_zero])
    refine Eq.trans (b := it (fun rec st => B_X10_pupil_33 M (nI i) (nI j) rec st.1 st.2.1 st.2.2.1 st.2.2.2.1 st.2.2.2.2) FU (hv σ f, nI (mbn S i 0), nI (lkt S i 0).1, e1 (lkt S i 0).2, nI 0)) rfl (hm.trans ?_)
    simp (decide := true) (disch := omega) only [B_X10_pupil_33, b1_some, b2_some, litI, neg1, nI_add, nI_mul, e1_p1, nI_e0, ib, ib1, ite_not, if_true, if_false, not_true_eq_false, not_false_eq_true, setI_hv, le_lit, Nat.le_refl]
  simp (decide := true) (disch := omega) only [b1_some, b2_some, litI, neg1, nI_add, nI_mul, e1_p1, nI_e0, ib, ib1, ite_not, if_true, if_false, not_true_eq_false, not_false_eq_true, setI_hv, inj, lp, F_X10_pupil_106, m_parts g h hp, d1, d2, bx]
  have j4 : j = 0 ∨ j = 1 ∨ j = 2 ∨ j = 3 := by omega
  rcases j4 with rfl | rfl | rfl | rfl
  all_goals simp (decide := true) (disch := omega) only [b1_some, b2_some, litI, neg1, nI_add, nI_mul, e1_p1, nI_e0, ib, ib1, ite_not, if_true, if_false, not_true_eq_false, not_false_eq_true, setI_hv]
