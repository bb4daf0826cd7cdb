set_option maxRecDepth 100000
/-! pure law 25: what parts a pupil's tables best -/
theorem sub_p1 (a b : Nat) : nI a - nI b + nI 1 = nI (a + 1) - nI b := by
  rw [← nI_add, Int32.sub_eq_add_neg, Int32.sub_eq_add_neg, Int32.add_assoc, Int32.add_comm (-nI b), ← Int32.add_assoc]
theorem sub_m1 (a b : Nat) : nI a - nI b + e1 0 = nI a - nI (b + 1) := by
  rw [← neg1, ← nI_add, Int32.sub_eq_add_neg, Int32.sub_eq_add_neg, Int32.neg_add, Int32.add_assoc, Int32.sub_eq_add_neg]
theorem sub_z (a b : Nat) : nI a - nI b + nI 0 = nI a - nI b := Int32.add_zero _
def cps (S : St) (p d : Nat) : Nat → Nat
  | 0 => 0
  | t + 1 => cps S p d t + if agt S p t = S.2 35 p ∧ rgt (t / 9 + 1) (10 * (t % 9 + 1)) d then 1 else 0
def cns (S : St) (p d : Nat) : Nat → Nat
  | 0 => 0
  | t + 1 => cns S p d t + if agt S p t = S.2 35 p ∧ ¬ rgt (t / 9 + 1) (10 * (t % 9 + 1)) d then 1 else 0
theorem cps_le (S : St) (p d : Nat) : ∀ n, cps S p d n + cns S p d n ≤ n
  | 0 => Nat.le_refl _
  | t + 1 => by
    have := cps_le S p d t
    show cps S p d t + (if agt S p t = S.2 35 p ∧ rgt (t / 9 + 1) (10 * (t % 9 + 1)) d then 1 else 0) + (cns S p d t + if agt S p t = S.2 35 p ∧ ¬ rgt (t / 9 + 1) (10 * (t % 9 + 1)) d then 1 else 0) ≤ t + 1
    by_cases q : agt S p t = S.2 35 p
    · by_cases q2 : rgt (t / 9 + 1) (10 * (t % 9 + 1)) d
      · rw [if_pos ⟨q, q2⟩, if_neg (fun z => z.2 q2)]
        omega
      · rw [if_neg (fun z => q2 z.2), if_pos ⟨q, q2⟩]
        omega
    · rw [if_neg (fun z => q z.1), if_neg (fun z => q z.1)]
      omega
def od (S : St) (p d : Nat) : Nat := if cns S p d 81 ≤ cps S p d 81 then cps S p d 81 - cns S p d 81 else cns S p d 81 - cps S p d 81
theorem od_le (S : St) (p d : Nat) : od S p d ≤ 81 := by
  have := cps_le S p d 81
  unfold od
  split <;> omega
theorem neg_sub' (a b : Nat) : -(nI a - nI b) = nI b - nI a := Int32.neg_sub
theorem zero_sub' (a b : Nat) : nI 0 - (nI a - nI b) = nI b - nI a := by
  rw [show nI 0 - (nI a - nI b) = -(nI a - nI b) from Int32.zero_sub _]
  exact neg_sub' a b
theorem agt_many {S : St} (p t : Nat) : agt S p t ≤ S.2 35 p := agr_le S p _ _ _
theorem x_unlike {N : Nat} {σ : Hp} {f : Nat → Nat → Int32} {S : St} (g : Good S) (h : RepX N (hv σ f) S) {p d : Nat} (hp : p < 4) (hd : d ≤ 60) : F_X9_unlike (hv σ f) (N + (233 + 3 * p)) (nI d) = some (nI (od S p d), hv σ f) := by
  have s : SX N σ := h.1
  have pm := g.pm hp
  unfold F_X9_unlike L_X9_unlike_4
  rw [s.PG hp]
  obtain ⟨m, hm⟩ := it_FU (body := fun rec st => B_X9_unlike_4 (N + (233 + 3 * p)) (nI d) rec st.1 st.2.1 st.2.2) (fun i => (hv σ f, nI (cps S p d (9 * i)) - nI (cns S p d (9 * i)), nI (i + 1))) 0 9 (by omega) (by omega) (fun i _ hi rec => by
    obtain ⟨m', hm'⟩ := it_FU (body := fun rec' st => B_X9_unlike_14 rec (N + (233 + 3 * p)) (nI d) (nI (i + 1)) rec' st.1 st.2.1 st.2.2) (fun j => (hv σ f, nI (cps S p d (9 * i + j)) - nI (cns S p d (9 * i + j)), nI (10 * (j + 1)))) 0 9 (by omega) (by omega) (fun j _ hj rec' => by
      have ag := x_agr g h (a := i + 1) (l := 10 * (j + 1)) hp (by omega) (by omega)
      rw [← agt_at S p i j hj] at ag
      have am := agt_many (S := S) p (9 * i + j)
      have r := x9_right (σ := hv σ f) (a := i + 1) (l := 10 * (j + 1)) (d := d) (by omega) (by omega) hd
      show B_X9_unlike_14 rec (N + (233 + 3 * p)) (nI d) (nI (i + 1)) rec' (hv σ f) (nI (cps S p d (9 * i + j)) - nI (cns S p d (9 * i + j))) (nI (10 * (j + 1))) = rec' (hv σ f, nI (cps S p d (9 * i + j) + if agt S p (9 * i + j) = S.2 35 p ∧ rgt ((9 * i + j) / 9 + 1) (10 * ((9 * i + j) % 9 + 1)) d then 1 else 0) - nI (cns S p d (9 * i + j) + if agt S p (9 * i + j) = S.2 35 p ∧ ¬ rgt ((9 * i + j) / 9 + 1) (10 * ((9 * i + j) % 9 + 1)) d then 1 else 0), nI (10 * (j + 1 + 1)))
      rw [show 10 * (j + 1 + 1) = 10 * (j + 1) + 10 by omega, show (9 * i + j) / 9 = i by omega, show (9 * i + j) % 9 = j by omega]
      by_cases q : agt S p (9 * i + j) = S.2 35 p
      · by_cases q2 : rgt (i + 1) (10 * (j + 1)) d
        · rw [if_pos q2] at r
          rw [if_pos ⟨q, q2⟩, if_neg (fun z => z.2 q2)]
          simp (decide := true) (disch := omega) only [B_X9_unlike_14, s.PI, b1_some, b2_some, litI, neg1, nI_add, nI_mul, e1_p1, nI_e0, ib, ib1, ite_not, if_true, if_false, not_true_eq_false, not_false_eq_true, setI_hv, h.a35, lt_lit, le_lit, eq_lit, show ¬ 90 < 10 * (j + 1) by omega, ag, q, Nat.le_refl, r, sub_p1, Nat.add_zero]
        · rw [if_neg q2] at r
          rw [if_neg (fun z => q2 z.2), if_pos ⟨q, q2⟩]
          simp (decide := true) (disch := omega) only [B_X9_unlike_14, s.PI, b1_some, b2_some, litI, neg1, nI_add, nI_mul, e1_p1, nI_e0, ib, ib1, ite_not, if_true, if_false, not_true_eq_false, not_false_eq_true, setI_hv, h.a35, lt_lit, le_lit, eq_lit, show ¬ 90 < 10 * (j + 1) by omega, ag, q, Nat.le_refl, r, sub_m1, Nat.add_zero]
      · rw [if_neg (fun z => q z.1), if_neg (fun z => q z.1)]
        simp (decide := true) (disch := omega) only [B_X9_unlike_14, s.PI, b1_some, b2_some, litI, neg1, nI_add, nI_mul, e1_p1, nI_e0, ib, ib1, ite_not, if_true, if_false, not_true_eq_false, not_false_eq_true, setI_hv, h.a35, lt_lit, le_lit, show ¬ 90 < 10 * (j + 1) by omega, ag, show ¬ S.2 35 p ≤ agt S p (9 * i + j) by omega, sub_z, Nat.add_zero])
    have lp : L_X9_unlike_14 rec (N + (233 + 3 * p)) (nI d) (nI (i + 1)) FU (hv σ f, nI (cps S p d (9 * i)) - nI (cns S p d (9 * i)), nI 10) = rec (hv σ f, nI (cps S p d (9 * (i + 1))) - nI (cns S p d (9 * (i + 1))), nI (i + 1 + 1)) := by
      refine hm'.trans ?_
      show B_X9_unlike_14 rec (N + (233 + 3 * p)) (nI d) (nI (i + 1)) m' (hv σ f) (nI (cps S p d (9 * i + 9)) - nI (cns S p d (9 * i + 9))) (nI (10 * (9 + 1))) = _
      rw [show 9 * (i + 1) = 9 * i + 9 by omega]
      simp (decide := true) (disch := omega) only [B_X9_unlike_14, b1_some, b2_some, litI, neg1, nI_add, nI_mul, e1_p1, nI_e0, ib, ib1, ite_not, if_true, if_false, not_true_eq_false, not_false_eq_true, setI_hv, lt_lit]
    show B_X9_unlike_4 (N + (233 + 3 * p)) (nI d) rec (hv σ f) (nI (cps S p d (9 * i)) - nI (cns S p d (9 * i))) (nI (i + 1)) = rec (hv σ f, nI (cps S p d (9 * (i + 1))) - nI (cns S p d (9 * (i + 1))), nI (i + 1 + 1))
    rw [← lp]
    simp (decide := true) (disch := omega) only [B_X9_unlike_4, b1_some, b2_some, litI, neg1, nI_add, nI_mul, e1_p1, nI_e0, ib, ib1, ite_not, if_true, if_false, not_true_eq_false, not_false_eq_true, setI_hv, lt_lit, show ¬ 9 < i + 1 by omega])
  refine Eq.trans (b := it (fun rec st => B_X9_unlike_4 (N + (233 + 3 * p)) (nI d) rec st.1 st.2.1 st.2.2) FU (hv σ f, nI (cps S p d (9 * 0)) - nI (cns S p d (9 * 0)), nI (0 + 1))) (by
    have e : (0 : Int32) = nI (cps S p d (9 * 0)) - nI (cns S p d (9 * 0)) := by
      show (0 : Int32) = nI 0 - nI 0
      decide
    rw [← e]
    rfl) (hm.trans ?_)
  show B_X9_unlike_4 (N + (233 + 3 * p)) (nI d) m (hv σ f) (nI (cps S p d 81) - nI (cns S p d 81)) (nI 10) = _
  have cl := cps_le S p d 81
  unfold od
  by_cases q : cns S p d 81 ≤ cps S p d 81
  · rw [if_pos q]
    simp (decide := true) (disch := omega) only [B_X9_unlike_4, b1_some, b2_some, litI, neg1, nI_add, nI_mul, e1_p1, nI_e0, ib, ib1, ite_not, if_true, if_false, not_true_eq_false, not_false_eq_true, setI_hv, lt_lit, fade0, q, nI_sub, le_lit, Nat.zero_le]
  · rw [if_neg q]
    simp (decide := true) (disch := omega) only [B_X9_unlike_4, b1_some, b2_some, litI, neg1, nI_add, nI_mul, e1_p1, nI_e0, ib, ib1, ite_not, if_true, if_false, not_true_eq_false, not_false_eq_true, setI_hv, lt_lit, fade0, q, zero_sub', nI_sub]
