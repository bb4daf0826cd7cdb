set_option maxRecDepth 100000
/-! pure law 19: what the rules say -/
def lv (S : St) (i s r : Nat) : Nat := if S.2 30 (3 * i) = s ∧ S.2 30 (3 * i + 1) = r then S.2 30 (3 * i + 2) + 1 else 0
def lo (S : St) (s r : Nat) : Nat → Nat
  | 0 => 0
  | i + 1 => if lv S i s r = 0 then lo S s r i else lv S i s r
def los (S : St) (s r : Nat) : Nat := lo S s r (S.1 29)
theorem Good.lm {S : St} (g : Good S) : S.1 29 ≤ 10 := g.2.2.2.2.2.1
theorem Good.ln {S : St} (g : Good S) {i : Nat} (hi : i < S.1 29) : (S.2 30 (3 * i) = 0 ∧ S.2 30 (3 * i + 1) < 8 ∧ S.2 30 (3 * i + 2) ≤ 8) ∨ (S.2 30 (3 * i) = 1 ∧ S.2 30 (3 * i + 1) = 0 ∧ 1 ≤ S.2 30 (3 * i + 2) ∧ S.2 30 (3 * i + 2) ≤ 99) ∨ (S.2 30 (3 * i) = 2 ∧ S.2 30 (3 * i + 1) = 0 ∧ S.2 30 (3 * i + 2) ≤ 8) ∨ (S.2 30 (3 * i) = 3 ∧ S.2 30 (3 * i + 1) < 8 ∧ 1 ≤ S.2 30 (3 * i + 2) ∧ S.2 30 (3 * i + 2) ≤ 99) := g.2.2.2.2.2.2.2.2.2.2.2.2.2.1 i hi
theorem lv_le {S : St} (g : Good S) {i : Nat} (hi : i < S.1 29) (s r : Nat) : lv S i s r ≤ 100 ∧ (s = 0 → lv S i s r ≤ 9) ∧ (s = 2 → lv S i s r ≤ 9) ∧ (s = 3 → lv S i s r ≠ 1) ∧ (s = 1 → lv S i s r ≠ 1) := by
  have := g.ln hi
  unfold lv
  split
  · omega
  · omega
theorem lo_le {S : St} (g : Good S) (s r : Nat) : ∀ i, i ≤ S.1 29 → lo S s r i ≤ 100 ∧ (s = 0 → lo S s r i ≤ 9) ∧ (s = 2 → lo S s r i ≤ 9) ∧ (s = 3 → lo S s r i ≠ 1) ∧ (s = 1 → lo S s r i ≠ 1)
  | 0, _ => by
    show 0 ≤ 100 ∧ _
    refine ⟨by omega, fun _ => Nat.zero_le _, fun _ => Nat.zero_le _, fun _ => (Nat.zero_ne_one), fun _ => (Nat.zero_ne_one)⟩
  | i + 1, hi => by
    have h1 := lv_le g (i := i) (by omega) s r
    have h2 := lo_le g s r i (by omega)
    unfold lo
    split
    · exact h2
    · exact h1
theorem m_last {M : Nat} {σ : Hp} {f : Nat → Nat → Int32} {S : St} (g : Good S) (h : RepM M (hv σ f) S) {s r w : Nat} (hs : s < 4) (hr : r < 8) (hw : w ≤ 100) : F_X10_lastOf (hv σ f) M (nI s) (nI r) (nI w) = some (nI (if los S s r = 0 then w else los S s r - 1), hv σ f) := by
  have sm : SM M σ := h.1
  have lm := g.lm
  unfold F_X10_lastOf L_X10_lastOf_6
  rw [gd_hv sm.1]
  obtain ⟨m, hm⟩ := it_FU (body := fun rec st => B_X10_lastOf_6 (hv σ f) M (nI s) (nI r) rec st.1 st.2) (fun i => (nI (if lo S s r i = 0 then w else lo S s r i - 1), nI i)) 0 (S.1 29) (by omega) (by omega) (fun i _ hi rec => by
    have hb := g.ln hi
    show B_X10_lastOf_6 (hv σ f) M (nI s) (nI r) rec (nI (if lo S s r i = 0 then w else lo S s r i - 1)) (nI i) = rec (nI (if lo S s r (i + 1) = 0 then w else lo S s r (i + 1) - 1), nI (i + 1))
    have el : lo S s r (i + 1) = if lv S i s r = 0 then lo S s r i else lv S i s r := rfl
    have s' : SM M σ := sm
    by_cases q1 : S.2 30 (3 * i) = s
    · by_cases q2 : S.2 30 (3 * i + 1) = r
      · have e : lv S i s r = S.2 30 (3 * i + 2) + 1 := if_pos ⟨q1, q2⟩
        have el2 : lo S s r (i + 1) = S.2 30 (3 * i + 2) + 1 := by rw [el, e, if_neg (by omega)]
        rw [el2, show (if S.2 30 (3 * i + 2) + 1 = 0 then w else S.2 30 (3 * i + 2) + 1 - 1) = S.2 30 (3 * i + 2) from by rw [if_neg (by omega)]; rfl]
        generalize (if lo S s r i = 0 then w else lo S s r i - 1) = z
        simp (decide := true) (disch := omega) only [B_X10_lastOf_6, gI_hv sm.1, sm.R30, sm.A30, b1_some, b2_some, litI, neg1, nI_add, nI_mul, e1_p1, nI_e0, ib, ib1, ite_not, if_true, if_false, not_true_eq_false, not_false_eq_true, setI_hv, h.s29, h.a30, le_lit, eq_lit, show ¬ S.1 29 ≤ i by omega, q1, q2]
      · have e : lv S i s r = 0 := if_neg (fun z => q2 z.2)
        rw [el, e, if_pos rfl]
        generalize (if lo S s r i = 0 then w else lo S s r i - 1) = z
        simp (decide := true) (disch := omega) only [B_X10_lastOf_6, gI_hv sm.1, sm.R30, sm.A30, b1_some, b2_some, litI, neg1, nI_add, nI_mul, e1_p1, nI_e0, ib, ib1, ite_not, if_true, if_false, not_true_eq_false, not_false_eq_true, setI_hv, h.s29, h.a30, le_lit, eq_lit, show ¬ S.1 29 ≤ i by omega, q1, q2]
    · have e : lv S i s r = 0 := if_neg (fun z => q1 z.1)
      rw [el, e, if_pos rfl]
      generalize (if lo S s r i = 0 then w else lo S s r i - 1) = z
      simp (decide := true) (disch := omega) only [B_X10_lastOf_6, gI_hv sm.1, sm.R30, sm.A30, b1_some, b2_some, litI, neg1, nI_add, nI_mul, e1_p1, nI_e0, ib, ib1, ite_not, if_true, if_false, not_true_eq_false, not_false_eq_true, setI_hv, h.s29, h.a30, le_lit, eq_lit, show ¬ S.1 29 ≤ i by omega, q1])
  refine hm.trans ?_
  show B_X10_lastOf_6 (hv σ f) M (nI s) (nI r) m (nI (if lo S s r (S.1 29) = 0 then w else lo S s r (S.1 29) - 1)) (nI (S.1 29)) = _
  simp (decide := true) (disch := omega) only [B_X10_lastOf_6, gI_hv sm.1, b1_some, h.s29, le_lit, Nat.le_refl, if_true]
  rfl
theorem gd_c {ρ : Type} {σ : Hp} {f : Nat → Nat → Int32} {ci a : Nat} {z : Option ρ} (h : hT (hv σ f) a = some (.inl ci)) : gd ci a (hv σ f) z = z := if_pos h
theorem gI_c {σ : Hp} {f : Nat → Nat → Int32} {ci a k : Nat} (h : hT (hv σ f) a = some (.inl ci)) : gI ci k a (hv σ f) = some (f a k) := if_pos h
theorem x_line {N : Nat} {σ : Hp} {f : Nat → Nat → Int32} {S : St} (g : Good S) (h : RepX N (hv σ f) S) {i : Nat} (hi : i < S.1 29) : ∃ L a, gR 0 10 N (hv σ f) = some L ∧ aR 4 L (nI i) (hv σ f) = some a ∧ (∀ r, r < 8 → D_room (hv σ f) a (nI r) = some (e1 (lv S i 0 r), hv σ f)) ∧ D_again (hv σ f) a = some (e1 (lv S i 1 0), hv σ f) ∧ D_apart (hv σ f) a = some (e1 (lv S i 2 0), hv σ f) ∧ ∀ r, r < 8 → D_every (hv σ f) a (nI r) = some (e1 (lv S i 3 r), hv σ f) := by
  have s : SX N σ := h.1
  have lm := g.lm
  obtain ⟨L, h1, h2, h3, h4⟩ := h.2.2.2.2.2.2.2.2.2
  obtain ⟨a, a1, a2, a3, a4⟩ := h4 i hi
  have hb := g.ln hi
  refine ⟨L, a, gR_at (σ := hv σ f) h.1.t0 h1, aR_at (aN_of h3) (by omega) (by decide) a3, ?_⟩
  rcases a4 with ⟨s0, t, v0, v1⟩ | ⟨s0, t, v0⟩ | ⟨s0, t, v0⟩ | ⟨s0, t, v0, v1⟩
  · have v0 : f a 0 = _ := v0
    have v1 : f a 1 = _ := v1
    refine ⟨fun r hr => ?_, ?_, ?_, fun r hr => ?_⟩
    · by_cases q : r = S.2 30 (3 * i + 1)
      · have e : lv S i 0 r = S.2 30 (3 * i + 2) + 1 := if_pos ⟨s0, q.symm⟩
        rw [← q] at v0
        simp (decide := true) (disch := omega) only [D_room, t, F_X13_room, gd_c t, gI_c t, b1_some, b2_some, litI, neg1, nI_add, nI_mul, e1_p1, nI_e0, ib, ib1, ite_not, if_true, if_false, not_true_eq_false, not_false_eq_true, setI_hv, v0, v1, e, e1_s]
      · have e : lv S i 0 r = 0 := if_neg (fun z => q z.2.symm)
        simp (decide := true) (disch := omega) only [D_room, t, F_X13_room, F_X12_room_13, gd_c t, gI_c t, b1_some, b2_some, litI, neg1, nI_add, nI_mul, e1_p1, nI_e0, ib, ib1, ite_not, if_true, if_false, not_true_eq_false, not_false_eq_true, setI_hv, v0, v1, eq_lit, q, e]
    · have e : lv S i 1 0 = 0 := if_neg (by omega)
      simp (decide := true) (disch := omega) only [D_again, t, F_X12_again_13, gd_c t, b1_some, b2_some, litI, neg1, nI_add, nI_mul, e1_p1, nI_e0, ib, ib1, ite_not, if_true, if_false, not_true_eq_false, not_false_eq_true, setI_hv, e]
    · have e : lv S i 2 0 = 0 := if_neg (by omega)
      simp (decide := true) (disch := omega) only [D_apart, t, F_X12_apart_13, gd_c t, b1_some, b2_some, litI, neg1, nI_add, nI_mul, e1_p1, nI_e0, ib, ib1, ite_not, if_true, if_false, not_true_eq_false, not_false_eq_true, setI_hv, e]
    · have e : lv S i 3 r = 0 := if_neg (by omega)
      simp (decide := true) (disch := omega) only [D_every, t, F_X12_every_13, gd_c t, b1_some, b2_some, litI, neg1, nI_add, nI_mul, e1_p1, nI_e0, ib, ib1, ite_not, if_true, if_false, not_true_eq_false, not_false_eq_true, setI_hv, e]
  · have v0 : f a 0 = _ := v0
    refine ⟨fun r hr => ?_, ?_, ?_, fun r hr => ?_⟩
    · have e : lv S i 0 r = 0 := if_neg (by omega)
      simp (decide := true) (disch := omega) only [D_room, t, F_X12_room_14, gd_c t, b1_some, b2_some, litI, neg1, nI_add, nI_mul, e1_p1, nI_e0, ib, ib1, ite_not, if_true, if_false, not_true_eq_false, not_false_eq_true, setI_hv, e, Option.some.injEq, Sum.inl.injEq]
    · have e : lv S i 1 0 = S.2 30 (3 * i + 2) + 1 := if_pos (by omega)
      simp (decide := true) (disch := omega) only [D_again, t, F_X14_again, gd_c t, gI_c t, b1_some, b2_some, litI, neg1, nI_add, nI_mul, e1_p1, nI_e0, ib, ib1, ite_not, if_true, if_false, not_true_eq_false, not_false_eq_true, setI_hv, v0, e, e1_s, Option.some.injEq, Sum.inl.injEq]
    · have e : lv S i 2 0 = 0 := if_neg (by omega)
      simp (decide := true) (disch := omega) only [D_apart, t, F_X12_apart_14, gd_c t, b1_some, b2_some, litI, neg1, nI_add, nI_mul, e1_p1, nI_e0, ib, ib1, ite_not, if_true, if_false, not_true_eq_false, not_false_eq_true, setI_hv, e, Option.some.injEq, Sum.inl.injEq]
    · have e : lv S i 3 r = 0 := if_neg (by omega)
      simp (decide := true) (disch := omega) only [D_every, t, F_X12_every_14, gd_c t, b1_some, b2_some, litI, neg1, nI_add, nI_mul, e1_p1, nI_e0, ib, ib1, ite_not, if_true, if_false, not_true_eq_false, not_false_eq_true, setI_hv, e, Option.some.injEq, Sum.inl.injEq]
  · have v0 : f a 0 = _ := v0
    refine ⟨fun r hr => ?_, ?_, ?_, fun r hr => ?_⟩
    · have e : lv S i 0 r = 0 := if_neg (by omega)
      simp (decide := true) (disch := omega) only [D_room, t, F_X12_room_15, gd_c t, b1_some, b2_some, litI, neg1, nI_add, nI_mul, e1_p1, nI_e0, ib, ib1, ite_not, if_true, if_false, not_true_eq_false, not_false_eq_true, setI_hv, e, Option.some.injEq, Sum.inl.injEq]
    · have e : lv S i 1 0 = 0 := if_neg (by omega)
      simp (decide := true) (disch := omega) only [D_again, t, F_X12_again_15, gd_c t, b1_some, b2_some, litI, neg1, nI_add, nI_mul, e1_p1, nI_e0, ib, ib1, ite_not, if_true, if_false, not_true_eq_false, not_false_eq_true, setI_hv, e, Option.some.injEq, Sum.inl.injEq]
    · have e : lv S i 2 0 = S.2 30 (3 * i + 2) + 1 := if_pos (by omega)
      simp (decide := true) (disch := omega) only [D_apart, t, F_X15_apart, gd_c t, gI_c t, b1_some, b2_some, litI, neg1, nI_add, nI_mul, e1_p1, nI_e0, ib, ib1, ite_not, if_true, if_false, not_true_eq_false, not_false_eq_true, setI_hv, v0, e, e1_s, Option.some.injEq, Sum.inl.injEq]
    · have e : lv S i 3 r = 0 := if_neg (by omega)
      simp (decide := true) (disch := omega) only [D_every, t, F_X12_every_15, gd_c t, b1_some, b2_some, litI, neg1, nI_add, nI_mul, e1_p1, nI_e0, ib, ib1, ite_not, if_true, if_false, not_true_eq_false, not_false_eq_true, setI_hv, e, Option.some.injEq, Sum.inl.injEq]
  · have v0 : f a 0 = _ := v0
    have v1 : f a 1 = _ := v1
    refine ⟨fun r hr => ?_, ?_, ?_, fun r hr => ?_⟩
    · have e : lv S i 0 r = 0 := if_neg (by omega)
      simp (decide := true) (disch := omega) only [D_room, t, F_X12_room_16, gd_c t, b1_some, b2_some, litI, neg1, nI_add, nI_mul, e1_p1, nI_e0, ib, ib1, ite_not, if_true, if_false, not_true_eq_false, not_false_eq_true, setI_hv, e, Option.some.injEq, Sum.inl.injEq]
    · have e : lv S i 1 0 = 0 := if_neg (by omega)
      simp (decide := true) (disch := omega) only [D_again, t, F_X12_again_16, gd_c t, b1_some, b2_some, litI, neg1, nI_add, nI_mul, e1_p1, nI_e0, ib, ib1, ite_not, if_true, if_false, not_true_eq_false, not_false_eq_true, setI_hv, e, Option.some.injEq, Sum.inl.injEq]
    · have e : lv S i 2 0 = 0 := if_neg (by omega)
      simp (decide := true) (disch := omega) only [D_apart, t, F_X12_apart_16, gd_c t, b1_some, b2_some, litI, neg1, nI_add, nI_mul, e1_p1, nI_e0, ib, ib1, ite_not, if_true, if_false, not_true_eq_false, not_false_eq_true, setI_hv, e, Option.some.injEq, Sum.inl.injEq]
    · by_cases q : r = S.2 30 (3 * i + 1)
      · have e : lv S i 3 r = S.2 30 (3 * i + 2) + 1 := if_pos ⟨s0, q.symm⟩
        rw [← q] at v0
        simp (decide := true) (disch := omega) only [D_every, t, F_X16_every, gd_c t, gI_c t, b1_some, b2_some, litI, neg1, nI_add, nI_mul, e1_p1, nI_e0, ib, ib1, ite_not, if_true, if_false, not_true_eq_false, not_false_eq_true, setI_hv, v0, v1, e, e1_s, Option.some.injEq, Sum.inl.injEq]
      · have e : lv S i 3 r = 0 := if_neg (fun z => q z.2.symm)
        simp (decide := true) (disch := omega) only [D_every, t, F_X16_every, F_X12_every_16, gd_c t, gI_c t, b1_some, b2_some, litI, neg1, nI_add, nI_mul, e1_p1, nI_e0, ib, ib1, ite_not, if_true, if_false, not_true_eq_false, not_false_eq_true, setI_hv, v0, v1, eq_lit, q, e, Option.some.injEq, Sum.inl.injEq]
theorem x_roomFor {N : Nat} {σ : Hp} {f : Nat → Nat → Int32} {S : St} (g : Good S) (h : RepX N (hv σ f) S) {r : Nat} (hr : r < 8) : F_X0_roomFor (hv σ f) N (nI r) = some (e1 (los S 0 r), hv σ f) := by
  have s : SX N σ := h.1
  have lm := g.lm
  unfold F_X0_roomFor L_X0_roomFor_4
  rw [gd_hv s.t0]
  obtain ⟨m, hm⟩ := it_FU (body := fun rec st => B_X0_roomFor_4 N (nI r) rec st.1 st.2.1 st.2.2) (fun i => (hv σ f, e1 (lo S 0 r i), nI i)) 0 (S.1 29) (by omega) (by omega) (fun i _ hi rec => by
    obtain ⟨L, a, l1, l2, l3, -⟩ := x_line g h hi
    have vb := lv_le g hi 0 r
    show B_X0_roomFor_4 N (nI r) rec (hv σ f) (e1 (lo S 0 r i)) (nI i) = rec (hv σ f, e1 (if lv S i 0 r = 0 then lo S 0 r i else lv S i 0 r), nI (i + 1))
    by_cases q : lv S i 0 r = 0
    · simp (decide := true) (disch := omega) only [B_X0_roomFor_4, gd_hv s.t0, gI_hv s.t0, pI_hv s.t0, b1_some, b2_some, litI, neg1, nI_add, nI_mul, e1_p1, nI_e0, ib, ib1, ite_not, if_true, if_false, not_true_eq_false, not_false_eq_true, setI_hv, h.s29, le_lit, show ¬ S.1 29 ≤ i by omega, l1, l2, l3, q]
    · simp (decide := true) (disch := omega) only [B_X0_roomFor_4, gd_hv s.t0, gI_hv s.t0, pI_hv s.t0, b1_some, b2_some, litI, neg1, nI_add, nI_mul, e1_p1, nI_e0, ib, ib1, ite_not, if_true, if_false, not_true_eq_false, not_false_eq_true, setI_hv, h.s29, le_lit, show ¬ S.1 29 ≤ i by omega, l1, l2, l3, q, e1_inj])
  refine Eq.trans (b := it (fun rec st => B_X0_roomFor_4 N (nI r) rec st.1 st.2.1 st.2.2) FU (hv σ f, e1 (lo S 0 r 0), nI 0)) rfl (hm.trans ?_)
  simp (decide := true) (disch := omega) only [B_X0_roomFor_4, gd_hv s.t0, gI_hv s.t0, pI_hv s.t0, b1_some, b2_some, litI, neg1, nI_add, nI_mul, e1_p1, nI_e0, ib, ib1, ite_not, if_true, if_false, not_true_eq_false, not_false_eq_true, setI_hv, h.s29, le_lit, Nat.le_refl]
  rfl
