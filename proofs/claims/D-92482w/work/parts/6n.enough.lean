set_option maxRecDepth 100000
/-! pure law 23: enough -/
def cpr (S : St) (r : Nat) : Nat := if los S 0 r = 0 then 6 else min 6 (los S 0 r - 1)
noncomputable def est (S : St) (C far : Nat) (p : Nat × Nat) (r : Nat) : Nat × Nat := if p.1 < C ∧ dst S 0 r = far + 1 then (p.1 + cpr S r, p.2 + 1) else p
noncomputable def ei (S : St) (C far : Nat) (p : Nat × Nat) : Nat → Nat × Nat
  | 0 => p
  | j + 1 => est S C far (ei S C far p j) j
noncomputable def eo (S : St) (C : Nat) : Nat → Nat × Nat
  | 0 => (0, 0)
  | j + 1 => ei S C j (eo S C j) 8
theorem cpr_le (S : St) (r : Nat) : cpr S r ≤ 6 := by
  unfold cpr
  split <;> omega
theorem est_c {S : St} {C far r : Nat} {p : Nat × Nat} (h : C ≤ p.1) : est S C far p r = p := if_neg (fun z => by omega)
theorem ei_c {S : St} {C far : Nat} {p : Nat × Nat} {i : Nat} (h : C ≤ (ei S C far p i).1) : ∀ k, ei S C far p (i + k) = ei S C far p i
  | 0 => rfl
  | k + 1 => by
    have ih := ei_c h k
    show est S C far (ei S C far p (i + k)) (i + k) = _
    rw [ih]
    exact est_c h
theorem eo_c {S : St} {C i : Nat} (h : C ≤ (eo S C i).1) : ∀ k, eo S C (i + k) = eo S C i
  | 0 => rfl
  | k + 1 => by
    have ih := eo_c h k
    show ei S C (i + k) (eo S C (i + k)) 8 = _
    rw [ih]
    have h0 : C ≤ (ei S C (i + k) (eo S C i) 0).1 := h
    have := ei_c h0 8
    exact this
theorem first {P : Nat → Prop} (n : Nat) : ∃ i, i ≤ n ∧ (∀ k, k < i → ¬ P k) ∧ (i = n ∨ P i) := by
  induction n with
  | zero => exact ⟨0, Nat.le_refl _, fun k hk => absurd hk (Nat.not_lt_zero k), Or.inl rfl⟩
  | succ n ih =>
    obtain ⟨i, h1, h2, h3⟩ := ih
    rcases h3 with h3 | h3
    · rcases Classical.em (P i) with q | q
      · exact ⟨i, by omega, h2, Or.inr q⟩
      · refine ⟨n + 1, Nat.le_refl _, fun k hk => ?_, Or.inl rfl⟩
        by_cases e : k = i
        · subst e
          exact q
        · exact h2 k (by omega)
    · exact ⟨i, by omega, h2, Or.inr h3⟩
theorem ei_b {S : St} {C far : Nat} {p : Nat × Nat} (hp : p.1 ≤ C + 6 ∧ p.2 ≤ 8 * far) : ∀ j, (ei S C far p j).1 ≤ C + 6 ∧ (ei S C far p j).2 ≤ 8 * far + j
  | 0 => ⟨hp.1, hp.2⟩
  | j + 1 => by
    have ih := ei_b (S := S) hp j
    show (est S C far (ei S C far p j) j).1 ≤ _ ∧ (est S C far (ei S C far p j) j).2 ≤ _
    have c := cpr_le S j
    unfold est
    split
    · show (ei S C far p j).1 + cpr S j ≤ _ ∧ (ei S C far p j).2 + 1 ≤ _
      omega
    · omega
theorem eo_b (S : St) (C : Nat) : ∀ j, (eo S C j).1 ≤ C + 6 ∧ (eo S C j).2 ≤ 8 * j
  | 0 => ⟨Nat.zero_le _, Nat.zero_le _⟩
  | j + 1 => by
    have := ei_b (S := S) (C := C) (far := j) (eo_b S C j) 8
    show (ei S C j (eo S C j) 8).1 ≤ _ ∧ (ei S C j (eo S C j) 8).2 ≤ _
    omega
theorem fz_fz (f : Nat → Nat → Int32) (A n : Nat) (D : Nat → Nat) : fz (fz f A n D) A n D = fz f A n D := by
  funext x k
  show (if x = A ∧ k < n then nI (D k) else if x = A ∧ k < n then nI (D k) else f x k) = if x = A ∧ k < n then nI (D k) else f x k
  by_cases q : x = A ∧ k < n
  · rw [if_pos q, if_pos q]
  · rw [if_neg q, if_neg q]
noncomputable def oEnough (C : Int32) (S : St) : Int32 × St := if inR C 0 48 then (if (eo S C.toNatClampNeg 8).1 < C.toNatClampNeg then -1 else nI (eo S C.toNatClampNeg 8).2, S) else (-3, S)
theorem m_en {M : Nat} {σ : Hp} {f : Nat → Nat → Int32} {S : St} (g : Good S) (h : RepM M (hv σ f) S) {C far : Nat} {p : Nat × Nat} (hC : C ≤ 48) (hf : far < 8) (hp : p.1 ≤ C + 6 ∧ p.2 ≤ 8 * far) (hlt : p.1 < C) (rec20 : Hp × Int32 × Int32 × Int32 → Option (Int32 × Hp)) : L_X10_enough_35 rec20 M (nI C) (nI far) FU (hv σ f, nI p.1, nI p.2, nI 0) = rec20 (hv σ (fz f (M + 3) 8 (tn S 0 8)), nI (ei S C far p 8).1, nI (ei S C far p 8).2, nI (far + 1)) := by
  have s : SM M σ := h.1
  obtain ⟨i, hi, no, ye⟩ := first (P := fun i => C ≤ (ei S C far p i).1) 8
  have i0 : i ≠ 0 := fun z => by
    subst z
    rcases ye with ye | ye
    · omega
    · have : C ≤ p.1 := ye
      omega
  have F0 := fz_fz f (M + 3) 8 (tn S 0 8)
  have h' := h.zz 3 8 (tn S 0 8) (by omega)
  unfold L_X10_enough_35
  obtain ⟨m, hm⟩ := it_FU (body := fun rec st => B_X10_enough_35 rec20 M (nI C) (nI far) rec st.1 st.2.1 st.2.2.1 st.2.2.2) (fun j => (hv σ (if j = 0 then f else fz f (M + 3) 8 (tn S 0 8)), nI (ei S C far p j).1, nI (ei S C far p j).2, nI j)) 0 i (by omega) (by omega) (fun j _ hj rec => by
    have nj : ¬ C ≤ (ei S C far p j).1 := no j hj
    have eb := ei_b (S := S) hp j
    have dl := dst_le S 0 j
    have l0 : los S 0 j ≤ 9 := (lo_le g 0 j (S.1 29) (Nat.le_refl _)).2.1 rfl
    have md : F_X10_doorsTo (hv σ (if j = 0 then f else fz f (M + 3) 8 (tn S 0 8))) M (nI 0) (nI j) = some (e1 (dst S 0 j), hv σ (fz f (M + 3) 8 (tn S 0 8))) := by
      by_cases z : j = 0
      · rw [if_pos z]
        exact m_dst g h (by omega) (by omega)
      · rw [if_neg z]
        have := m_dst g h' (a := 0) (b := j) (by omega) (by omega)
        rw [F0] at this
        exact this
    have la := m_last g h' (s := 0) (r := j) (w := 6) (by omega) (by omega) (by omega)
    show B_X10_enough_35 rec20 M (nI C) (nI far) rec (hv σ (if j = 0 then f else fz f (M + 3) 8 (tn S 0 8))) (nI (ei S C far p j).1) (nI (ei S C far p j).2) (nI j) = rec (hv σ (if j + 1 = 0 then f else fz f (M + 3) 8 (tn S 0 8)), nI (est S C far (ei S C far p j) j).1, nI (est S C far (ei S C far p j) j).2, nI (j + 1))
    rw [if_neg (show ¬ j + 1 = 0 by omega)]
    by_cases q : dst S 0 j = far + 1
    · have ee : est S C far (ei S C far p j) j = ((ei S C far p j).1 + cpr S j, (ei S C far p j).2 + 1) := if_pos ⟨by omega, q⟩
      rw [ee]
      by_cases q2 : (if los S 0 j = 0 then 6 else los S 0 j - 1) ≤ 6
      · have ec : cpr S j = if los S 0 j = 0 then 6 else los S 0 j - 1 := by
          unfold cpr
          by_cases w : los S 0 j = 0
          · rw [if_pos w, if_pos w]
          · rw [if_neg w, if_neg w]
            rw [if_neg w] at q2
            omega
        rw [ec]
        generalize (if los S 0 j = 0 then 6 else los S 0 j - 1) = z at la q2
        simp (decide := true) (disch := omega) only [B_X10_enough_35, b1_some, b2_some, litI, neg1, nI_add, nI_mul, e1_p1, nI_e0, ib, ib1, ite_not, if_true, if_false, not_true_eq_false, not_false_eq_true, setI_hv, le_lit, show ¬ 8 ≤ j by omega, nj, md, q, e1_s, la, q2]
      · have ec : cpr S j = 6 := by
          unfold cpr
          by_cases w : los S 0 j = 0
          · rw [if_pos w]
          · rw [if_neg w]
            rw [if_neg w] at q2
            omega
        have z1 : (if los S 0 j = 0 then 6 else los S 0 j - 1) ≤ 8 := by split <;> omega
        rw [ec]
        generalize (if los S 0 j = 0 then 6 else los S 0 j - 1) = z at la q2 z1
        simp (decide := true) (disch := omega) only [B_X10_enough_35, b1_some, b2_some, litI, neg1, nI_add, nI_mul, e1_p1, nI_e0, ib, ib1, ite_not, if_true, if_false, not_true_eq_false, not_false_eq_true, setI_hv, le_lit, show ¬ 8 ≤ j by omega, nj, md, q, e1_s, la, q2]
    · have ee : est S C far (ei S C far p j) j = ei S C far p j := if_neg (fun z => q z.2)
      rw [ee]
      simp (decide := true) (disch := omega) only [B_X10_enough_35, b1_some, b2_some, litI, neg1, nI_add, nI_mul, e1_p1, nI_e0, ib, ib1, ite_not, if_true, if_false, not_true_eq_false, not_false_eq_true, setI_hv, le_lit, show ¬ 8 ≤ j by omega, nj, md, e1_nI, q])
  refine Eq.trans (b := it (fun rec st => B_X10_enough_35 rec20 M (nI C) (nI far) rec st.1 st.2.1 st.2.2.1 st.2.2.2) FU (hv σ (if 0 = 0 then f else fz f (M + 3) 8 (tn S 0 8)), nI (ei S C far p 0).1, nI (ei S C far p 0).2, nI 0)) (by rw [if_pos rfl]; rfl) (hm.trans ?_)
  show B_X10_enough_35 rec20 M (nI C) (nI far) m (hv σ (if i = 0 then f else fz f (M + 3) 8 (tn S 0 8))) (nI (ei S C far p i).1) (nI (ei S C far p i).2) (nI i) = _
  rw [if_neg i0]
  have eb := ei_b (S := S) hp i
  rcases ye with ye | ye
  · subst ye
    simp (decide := true) (disch := omega) only [B_X10_enough_35, b1_some, b2_some, litI, neg1, nI_add, nI_mul, e1_p1, nI_e0, ib, ib1, ite_not, if_true, if_false, not_true_eq_false, not_false_eq_true, setI_hv, le_lit, Nat.le_refl]
  · have ec : ei S C far p 8 = ei S C far p i := by
      have := ei_c ye (8 - i)
      rwa [Nat.add_sub_cancel' hi] at this
    rw [ec]
    by_cases z : 8 ≤ i
    · simp (decide := true) (disch := omega) only [B_X10_enough_35, b1_some, b2_some, litI, neg1, nI_add, nI_mul, e1_p1, nI_e0, ib, ib1, ite_not, if_true, if_false, not_true_eq_false, not_false_eq_true, setI_hv, le_lit, z]
    · simp (decide := true) (disch := omega) only [B_X10_enough_35, b1_some, b2_some, litI, neg1, nI_add, nI_mul, e1_p1, nI_e0, ib, ib1, ite_not, if_true, if_false, not_true_eq_false, not_false_eq_true, setI_hv, le_lit, z, ye]
theorem m_enough (M : Nat) (C : Int32) : OkMf M (fun σ => F_X10_enough σ M C) (oEnough C) := by
  intro σ f S g h
  have s : SM M σ := h.1
  simp only [F_X10_enough, oEnough, gd_hv s.1, x10_inR _ C 0 48 0 48 rfl rfl, b2_some]
  rcases in_split C 0 48 (by omega) (by omega) with ⟨c, -, hc, rfl⟩ | hk
  case inr => simp (decide := true) (disch := omega) only [b1_some, b2_some, litI, neg1, nI_add, nI_mul, e1_p1, nI_e0, ib, ib1, ite_not, if_true, if_false, not_true_eq_false, not_false_eq_true, setI_hv, hk]; exact ⟨_, rfl, h, fun _ _ _ => rfl⟩
  have qi := eq_true (inR_of (Nat.zero_le c) hc (by omega))
  have F0 := fz_fz f (M + 3) 8 (tn S 0 8)
  have h' := h.zz 3 8 (tn S 0 8) (by omega)
  obtain ⟨i, hi, no, ye⟩ := first (P := fun i => c ≤ (eo S c i).1) 8
  obtain ⟨m, hm⟩ := it_FU (body := fun rec st => B_X10_enough_20 M (nI c) rec st.1 st.2.1 st.2.2.1 st.2.2.2) (fun j => (hv σ (if j = 0 then f else fz f (M + 3) 8 (tn S 0 8)), nI (eo S c j).1, nI (eo S c j).2, nI j)) 0 i (by omega) (by omega) (fun j _ hj rec => by
    have nj : ¬ c ≤ (eo S c j).1 := no j hj
    have eb := eo_b S c j
    have lp : L_X10_enough_35 rec M (nI c) (nI j) FU (hv σ (if j = 0 then f else fz f (M + 3) 8 (tn S 0 8)), nI (eo S c j).1, nI (eo S c j).2, nI 0) = rec (hv σ (fz f (M + 3) 8 (tn S 0 8)), nI (eo S c (j + 1)).1, nI (eo S c (j + 1)).2, nI (j + 1)) := by
      by_cases z : j = 0
      · rw [if_pos z]
        exact m_en g h hc (by omega) eb (by omega) rec
      · rw [if_neg z]
        have := m_en g h' hc (far := j) (by omega) eb (by omega) rec
        rw [F0] at this
        exact this
    show B_X10_enough_20 M (nI c) rec (hv σ (if j = 0 then f else fz f (M + 3) 8 (tn S 0 8))) (nI (eo S c j).1) (nI (eo S c j).2) (nI j) = rec (hv σ (if j + 1 = 0 then f else fz f (M + 3) 8 (tn S 0 8)), nI (eo S c (j + 1)).1, nI (eo S c (j + 1)).2, nI (j + 1))
    rw [if_neg (show ¬ j + 1 = 0 by omega)]
    generalize (if j = 0 then f else fz f (M + 3) 8 (tn S 0 8)) = f' at lp
    simp (decide := true) (disch := omega) only [B_X10_enough_20, b1_some, b2_some, litI, neg1, nI_add, nI_mul, e1_p1, nI_e0, ib, ib1, ite_not, if_true, if_false, not_true_eq_false, not_false_eq_true, setI_hv, le_lit, show ¬ 8 ≤ j by omega, nj, lp])
  have ec : eo S c 8 = eo S c i := by
    rcases ye with ye | ye
    · rw [ye]
    · have := eo_c ye (8 - i)
      rwa [Nat.add_sub_cancel' hi] at this
  have eb := eo_b S c i
  have lp : L_X10_enough_20 M (nI c) FU (hv σ f, nI 0, nI 0, nI 0) = some (if (eo S c 8).1 < c then e1 0 else nI (eo S c 8).2, hv σ (if i = 0 then f else fz f (M + 3) 8 (tn S 0 8))) := by
    refine Eq.trans (b := it (fun rec st => B_X10_enough_20 M (nI c) rec st.1 st.2.1 st.2.2.1 st.2.2.2) FU (hv σ (if 0 = 0 then f else fz f (M + 3) 8 (tn S 0 8)), nI (eo S c 0).1, nI (eo S c 0).2, nI 0)) (by rw [if_pos rfl]; rfl) (hm.trans ?_)
    show B_X10_enough_20 M (nI c) m (hv σ (if i = 0 then f else fz f (M + 3) 8 (tn S 0 8))) (nI (eo S c i).1) (nI (eo S c i).2) (nI i) = _
    rw [ec]
    generalize (if i = 0 then f else fz f (M + 3) 8 (tn S 0 8)) = f'
    by_cases w : (eo S c i).1 < c
    · have z : i = 8 := ye.elim id (fun y => by omega)
      simp (decide := true) (disch := omega) only [B_X10_enough_20, F_X10_enough_102, b1_some, b2_some, litI, neg1, nI_add, nI_mul, e1_p1, nI_e0, ib, ib1, ite_not, if_true, if_false, not_true_eq_false, not_false_eq_true, setI_hv, le_lit, show 8 ≤ i by omega, show ¬ c ≤ (eo S c i).1 by omega, w]
    · by_cases z : 8 ≤ i
      · simp (decide := true) (disch := omega) only [B_X10_enough_20, F_X10_enough_102, b1_some, b2_some, litI, neg1, nI_add, nI_mul, e1_p1, nI_e0, ib, ib1, ite_not, if_true, if_false, not_true_eq_false, not_false_eq_true, setI_hv, le_lit, z, show c ≤ (eo S c i).1 by omega, w]
      · simp (decide := true) (disch := omega) only [B_X10_enough_20, F_X10_enough_102, b1_some, b2_some, litI, neg1, nI_add, nI_mul, e1_p1, nI_e0, ib, ib1, ite_not, if_true, if_false, not_true_eq_false, not_false_eq_true, setI_hv, le_lit, z, show c ≤ (eo S c i).1 by omega, w]
  have fin : RepM M (hv σ (if i = 0 then f else fz f (M + 3) 8 (tn S 0 8))) S := by
    split
    · exact h
    · exact h'
  have off : ∀ a k, a < M ∨ M + 26 ≤ a → (if i = 0 then f else fz f (M + 3) 8 (tn S 0 8)) a k = f a k := fun a k ha => by
    split
    · rfl
    · exact fz_off (by omega)
  generalize (if i = 0 then f else fz f (M + 3) 8 (tn S 0 8)) = f' at lp fin off
  simp (decide := true) (disch := omega) only [b1_some, b2_some, litI, neg1, nI_add, nI_mul, e1_p1, nI_e0, ib, ib1, ite_not, if_true, if_false, not_true_eq_false, not_false_eq_true, setI_hv, qi, cl_I, lp]
  exact ⟨_, rfl, fin, off⟩
theorem leL {a b : Nat} (ha : a < 2147483648) (hb : b < 2147483648) : (nI a - nI b ≤ nI 0) = (a ≤ b) := by
  apply propext
  rw [Int32.le_iff_toInt_le, i_lt ha hb _ rfl, tI (by omega)]
  omega
theorem x_en {N : Nat} {σ : Hp} {f : Nat → Nat → Int32} {S : St} (g : Good S) (h : RepX N (hv σ f) S) {C far : Nat} {p : Nat × Nat} (hC : C ≤ 48) (hf : far < 8) (hp : p.1 ≤ C + 6 ∧ p.2 ≤ 8 * far) (rec22 : Hp × Int32 × Int32 × Int32 → Option (Int32 × Hp)) : L_X0_enough_32 rec22 N (nI far) FU (hv σ f, nI C - nI p.1, nI p.2, nI 0) = rec22 (hv σ f, nI C - nI (ei S C far p 8).1, nI (ei S C far p 8).2, nI (far + 1)) := by
  have s : SX N σ := h.1
  obtain ⟨i, hi, no, ye⟩ := first (P := fun i => C ≤ (ei S C far p i).1) 8
  unfold L_X0_enough_32
  obtain ⟨m, hm⟩ := it_FU (body := fun rec st => B_X0_enough_32 rec22 N (nI far) rec st.1 st.2.1 st.2.2.1 st.2.2.2) (fun j => (hv σ f, nI C - nI (ei S C far p j).1, nI (ei S C far p j).2, nI j)) 0 i (by omega) (by omega) (fun j _ hj rec => by
    have nj : ¬ C ≤ (ei S C far p j).1 := no j hj
    have eb := ei_b (S := S) hp j
    have dl := dst_le S 0 j
    have l0 : los S 0 j ≤ 9 := (lo_le g 0 j (S.1 29) (Nat.le_refl _)).2.1 rfl
    have md := x_dst h (a := 0) (b := j) (by omega) (by omega)
    have rf := x_roomFor g h (r := j) (by omega)
    show B_X0_enough_32 rec22 N (nI far) rec (hv σ f) (nI C - nI (ei S C far p j).1) (nI (ei S C far p j).2) (nI j) = rec (hv σ f, nI C - nI (est S C far (ei S C far p j) j).1, nI (est S C far (ei S C far p j) j).2, nI (j + 1))
    by_cases q : dst S 0 j = far + 1
    · have ee : est S C far (ei S C far p j) j = ((ei S C far p j).1 + cpr S j, (ei S C far p j).2 + 1) := if_pos ⟨by omega, q⟩
      rw [ee]
      by_cases w : los S 0 j = 0
      · have ec : cpr S j = 6 := if_pos w
        rw [ec]
        simp (decide := true) (disch := omega) only [B_X0_enough_32, b1_some, b2_some, litI, neg1, nI_add, nI_mul, e1_p1, nI_e0, ib, ib1, ite_not, if_true, if_false, not_true_eq_false, not_false_eq_true, setI_hv, le_lit, leL, show ¬ 8 ≤ j by omega, nj, md, q, e1_s, rf, w, sub_sub_I]
      · rw [e1_of (by omega)] at rf
        by_cases w2 : los S 0 j - 1 < 6
        · have ec : cpr S j = los S 0 j - 1 := by
            unfold cpr
            rw [if_neg w]
            omega
          rw [ec]
          simp (decide := true) (disch := omega) only [B_X0_enough_32, b1_some, b2_some, litI, neg1, nI_add, nI_mul, e1_p1, nI_e0, ib, ib1, ite_not, if_true, if_false, not_true_eq_false, not_false_eq_true, setI_hv, le_lit, leL, show ¬ 8 ≤ j by omega, nj, md, q, e1_s, rf, lt_lit, w2, sub_sub_I]
        · have ec : cpr S j = 6 := by
            unfold cpr
            rw [if_neg w]
            omega
          rw [ec]
          simp (decide := true) (disch := omega) only [B_X0_enough_32, b1_some, b2_some, litI, neg1, nI_add, nI_mul, e1_p1, nI_e0, ib, ib1, ite_not, if_true, if_false, not_true_eq_false, not_false_eq_true, setI_hv, le_lit, leL, show ¬ 8 ≤ j by omega, nj, md, q, e1_s, rf, lt_lit, w2, sub_sub_I]
    · have ee : est S C far (ei S C far p j) j = ei S C far p j := if_neg (fun z => q z.2)
      rw [ee]
      simp (decide := true) (disch := omega) only [B_X0_enough_32, b1_some, b2_some, litI, neg1, nI_add, nI_mul, e1_p1, nI_e0, ib, ib1, ite_not, if_true, if_false, not_true_eq_false, not_false_eq_true, setI_hv, le_lit, leL, show ¬ 8 ≤ j by omega, nj, md, e1_nI, q])
  refine Eq.trans (b := it (fun rec st => B_X0_enough_32 rec22 N (nI far) rec st.1 st.2.1 st.2.2.1 st.2.2.2) FU (hv σ f, nI C - nI (ei S C far p 0).1, nI (ei S C far p 0).2, nI 0)) rfl (hm.trans ?_)
  show B_X0_enough_32 rec22 N (nI far) m (hv σ f) (nI C - nI (ei S C far p i).1) (nI (ei S C far p i).2) (nI i) = _
  have eb := ei_b (S := S) hp i
  rcases ye with ye | ye
  · subst ye
    simp (decide := true) (disch := omega) only [B_X0_enough_32, b1_some, b2_some, litI, neg1, nI_add, nI_mul, e1_p1, nI_e0, ib, ib1, ite_not, if_true, if_false, not_true_eq_false, not_false_eq_true, setI_hv, le_lit, Nat.le_refl]
  · have ec : ei S C far p 8 = ei S C far p i := by
      have := ei_c ye (8 - i)
      rwa [Nat.add_sub_cancel' hi] at this
    rw [ec]
    by_cases z : 8 ≤ i
    · simp (decide := true) (disch := omega) only [B_X0_enough_32, b1_some, b2_some, litI, neg1, nI_add, nI_mul, e1_p1, nI_e0, ib, ib1, ite_not, if_true, if_false, not_true_eq_false, not_false_eq_true, setI_hv, le_lit, z]
    · simp (decide := true) (disch := omega) only [B_X0_enough_32, b1_some, b2_some, litI, neg1, nI_add, nI_mul, e1_p1, nI_e0, ib, ib1, ite_not, if_true, if_false, not_true_eq_false, not_false_eq_true, setI_hv, le_lit, leL, z, ye]
theorem x_enough (N : Nat) (C : Int32) : OkXf N (fun σ => F_X0_enough σ N C) (oEnough C) := by
  intro σ f S g h
  have s : SX N σ := h.1
  simp only [F_X0_enough, oEnough, gd_hv s.t0, x0_inR _ C 0 48 0 48 (by decide) (by decide), b2_some]
  rcases in_split C 0 48 (by omega) (by omega) with ⟨c, -, hc, rfl⟩ | hk
  case inr => simp (decide := true) (disch := omega) only [b1_some, b2_some, litI, neg1, nI_add, nI_mul, e1_p1, nI_e0, ib, ib1, ite_not, if_true, if_false, not_true_eq_false, not_false_eq_true, setI_hv, hk]; exact ⟨_, rfl, h, fun _ _ _ => rfl⟩
  have qi := eq_true (inR_of (Nat.zero_le c) hc (by omega))
  obtain ⟨m, hm⟩ := it_FU (body := fun rec st => B_X0_enough_22 N rec st.1 st.2.1 st.2.2.1 st.2.2.2) (fun j => (hv σ f, nI c - nI (eo S c j).1, nI (eo S c j).2, nI j)) 0 8 (by omega) (by omega) (fun j _ hj rec => by
    have eb := eo_b S c j
    have lp := x_en g h hc (far := j) hj eb rec
    show B_X0_enough_22 N rec (hv σ f) (nI c - nI (eo S c j).1) (nI (eo S c j).2) (nI j) = rec (hv σ f, nI c - nI (eo S c (j + 1)).1, nI (eo S c (j + 1)).2, nI (j + 1))
    simp (decide := true) (disch := omega) only [B_X0_enough_22, b1_some, b2_some, litI, neg1, nI_add, nI_mul, e1_p1, nI_e0, ib, ib1, ite_not, if_true, if_false, not_true_eq_false, not_false_eq_true, setI_hv, le_lit, show ¬ 8 ≤ j by omega, lp]
    rfl)
  have eb := eo_b S c 8
  have lp : L_X0_enough_22 N FU (hv σ f, nI c, nI 0, nI 0) = some (if (eo S c 8).1 < c then e1 0 else nI (eo S c 8).2, hv σ f) := by
    refine Eq.trans (b := it (fun rec st => B_X0_enough_22 N rec st.1 st.2.1 st.2.2.1 st.2.2.2) FU (hv σ f, nI c - nI (eo S c 0).1, nI (eo S c 0).2, nI 0)) (by
      show L_X0_enough_22 N FU (hv σ f, nI c, nI 0, nI 0) = L_X0_enough_22 N FU (hv σ f, nI c - nI 0, nI 0, nI 0)
      rw [nI_sub (Nat.zero_le c), Nat.sub_zero]) (hm.trans ?_)
    show B_X0_enough_22 N m (hv σ f) (nI c - nI (eo S c 8).1) (nI (eo S c 8).2) (nI 8) = _
    by_cases w : (eo S c 8).1 < c
    · simp (decide := true) (disch := omega) only [B_X0_enough_22, F_X0_enough_99, b1_some, b2_some, litI, neg1, nI_add, nI_mul, e1_p1, nI_e0, ib, ib1, ite_not, if_true, if_false, not_true_eq_false, not_false_eq_true, setI_hv, le_lit, leL, Nat.le_refl, w, show ¬ c ≤ (eo S c 8).1 by omega]
    · simp (decide := true) (disch := omega) only [B_X0_enough_22, F_X0_enough_99, b1_some, b2_some, litI, neg1, nI_add, nI_mul, e1_p1, nI_e0, ib, ib1, ite_not, if_true, if_false, not_true_eq_false, not_false_eq_true, setI_hv, le_lit, leL, Nat.le_refl, w, show c ≤ (eo S c 8).1 by omega]
  simp (decide := true) (disch := omega) only [b1_some, b2_some, litI, neg1, nI_add, nI_mul, e1_p1, nI_e0, ib, ib1, ite_not, if_true, if_false, not_true_eq_false, not_false_eq_true, setI_hv, qi, cl_I, lp]
  exact ⟨_, rfl, h, fun _ _ _ => rfl⟩
