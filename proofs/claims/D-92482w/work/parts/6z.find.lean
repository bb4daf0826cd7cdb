set_option maxRecDepth 100000
/-! pure law 35: the twin's search for an order; laid and code by the twin -/
def BestO (M : Nat) (F : Nat → Nat → Int32) (T : Nat → Nat) (n k : Nat) : Prop := k ≠ 0 → ∀ i, i < n → F (M + 21) i = nI (T (dgb n n (k - 1) i))
theorem m_cpy {M : Nat} {σ : Hp} {F : Nat → Nat → Int32} (s : SM M σ) {n : Nat} {T c : Nat → Nat} {x2 x3 : Int32} (h8 : n ≤ 8) (hT : ∀ k, k < n → F (M + 19) k = nI (T k)) (hc : ∀ k, k < n → c k < n ∧ F (M + 20) k = nI (c k)) (rec : Hp × Int32 → Option Hp) : L_X10_findOrder_147 rec M (nI n) x2 x3 FU (hv σ F, nI 0) = rec (hv σ (fz F (M + 21) n (fun k => T (c k))), x3) := by
  unfold L_X10_findOrder_147
  obtain ⟨m, hm⟩ := it_FU (body := fun rec' st => B_X10_findOrder_147 rec M (nI n) x2 x3 rec' st.1 st.2) (fun k => (hv σ (fz F (M + 21) k (fun k => T (c k))), nI k)) 0 n (by omega) (by omega) (fun k _ hk rec' => by
    have c1 := hc k hk
    have t1 := hT (c k) c1.1
    have r1 : fz F (M + 21) k (fun k => T (c k)) (M + 20) k = nI (c k) := (fz_off (by omega)).trans c1.2
    have r2 : fz F (M + 21) k (fun k => T (c k)) (M + 19) (c k) = nI (T (c k)) := (fz_off (by omega)).trans t1
    show B_X10_findOrder_147 rec M (nI n) x2 x3 rec' (hv σ (fz F (M + 21) k (fun k => T (c k)))) (nI k) = rec' (hv σ (fz F (M + 21) (k + 1) (fun k => T (c k))), nI (k + 1))
    rw [← fz_grow]
    generalize fz F (M + 21) k (fun k => T (c k)) = F1 at r1 r2
    simp (decide := true) (disch := omega) only [B_X10_findOrder_147, gd_hv s.1, gI_hv s.1, pI_hv s.1, s.R31, s.A31, s.W31, s.R32, s.A32, s.W32, s.R33, s.A33, s.W33, b1_some, b2_some, litI, neg1, nI_add, nI_mul, e1_p1, nI_e0, ib, ib1, ite_not, if_true, if_false, not_true_eq_false, not_false_eq_true, setI_hv, le_lit, show ¬ n ≤ k by omega, r1, r2])
  rw [fz_0] at hm
  refine hm.trans ?_
  simp (decide := true) (disch := omega) only [B_X10_findOrder_147, b1_some, b2_some, litI, neg1, nI_add, nI_mul, e1_p1, nI_e0, ib, ib1, ite_not, if_true, if_false, not_true_eq_false, not_false_eq_true, setI_hv, le_lit, Nat.le_refl]
theorem m_free {M : Nat} {σ : Hp} {F : Nat → Nat → Int32} (s : SM M σ) {n d : Nat} {c : Nat → Nat} {x2 : Int32} (h8 : n ≤ 8) (hd : d < n) (hc : ∀ k, k ≤ d → c k ≤ n ∧ F (M + 20) k = nI (c k)) (rec : Hp × Int32 → Option Hp) : L_X10_findOrder_34 rec (hv σ F) M (nI n) x2 (nI d) FU (nI 1, nI 0) = F_X10_findOrder_74 rec (hv σ F) M (nI n) x2 (nI d) (nI (if ∀ k, k < d → c k ≠ c d then 1 else 0)) := by
  unfold L_X10_findOrder_34
  have cd := hc d (Nat.le_refl _)
  obtain ⟨m, hm⟩ := it_FU (body := fun rec' st => B_X10_findOrder_34 rec (hv σ F) M (nI n) x2 (nI d) rec' st.1 st.2) (fun t => (nI (if ∀ k, k < t → c k ≠ c d then 1 else 0), nI t)) 0 d (by omega) (by omega) (fun t _ ht rec' => by
    have ct := hc t (by omega)
    show B_X10_findOrder_34 rec (hv σ F) M (nI n) x2 (nI d) rec' (nI (if ∀ k, k < t → c k ≠ c d then 1 else 0)) (nI t) = rec' (nI (if ∀ k, k < t + 1 → c k ≠ c d then 1 else 0), nI (t + 1))
    by_cases q1 : ∀ k, k < t → c k ≠ c d
    · rw [if_pos q1]
      by_cases q2 : c t = c d
      · rw [if_neg (fun u => u t (by omega) q2)]
        simp (decide := true) (disch := omega) only [B_X10_findOrder_34, gd_hv s.1, gI_hv s.1, pI_hv s.1, s.R32, s.A32, s.W32, b1_some, b2_some, litI, neg1, nI_add, nI_mul, e1_p1, nI_e0, ib, ib1, ite_not, if_true, if_false, not_true_eq_false, not_false_eq_true, setI_hv, le_lit, eq_lit, show ¬ d ≤ t by omega, ct.2, cd.2, q2]
      · rw [if_pos (fun k hk => by
          by_cases e : k = t
          · rw [e]; exact q2
          · exact q1 k (by omega))]
        simp (decide := true) (disch := omega) only [B_X10_findOrder_34, gd_hv s.1, gI_hv s.1, pI_hv s.1, s.R32, s.A32, s.W32, b1_some, b2_some, litI, neg1, nI_add, nI_mul, e1_p1, nI_e0, ib, ib1, ite_not, if_true, if_false, not_true_eq_false, not_false_eq_true, setI_hv, le_lit, eq_lit, show ¬ d ≤ t by omega, ct.2, cd.2, q2]
    · rw [if_neg q1, if_neg (fun u => q1 (fun k hk => u k (by omega)))]
      simp (decide := true) (disch := omega) only [B_X10_findOrder_34, b1_some, b2_some, litI, neg1, nI_add, nI_mul, e1_p1, nI_e0, ib, ib1, ite_not, if_true, if_false, not_true_eq_false, not_false_eq_true, setI_hv, le_lit, show ¬ d ≤ t by omega])
  have z1 : ∀ t, t = 0 → (if ∀ k, k < t → c k ≠ c d then 1 else 0) = 1 := fun t ht => if_pos (fun k hk => by omega)
  rw [z1 0 rfl] at hm
  refine hm.trans ?_
  simp (decide := true) (disch := omega) only [B_X10_findOrder_34, b1_some, b2_some, litI, neg1, nI_add, nI_mul, e1_p1, nI_e0, ib, ib1, ite_not, if_true, if_false, not_true_eq_false, not_false_eq_true, setI_hv, le_lit, Nat.le_refl]
def OI (M : Nat) (σ : Hp) (f : Nat → Nat → Int32) (S : St) (T : Nat → Nat) (b n m : Nat) (st : Hp × Int32) : Prop := ∃ F, RepM M (hv σ F) S ∧ (∀ a j, a < M ∨ M + 26 ≤ a → F a j = f a j) ∧ (∀ k, k < n → T k < 24 ∧ F (M + 19) k = nI (T k)) ∧
  ((∃ c d, d < n ∧ (∀ i, i < d → c i < n) ∧ c d ≤ n ∧ m = mt n c d ∧ st = (hv σ F, nI d) ∧ (∀ i, i < d → F (M + 20) i = nI (c i)) ∧ F (M + 20) d = e1 (c d) ∧ unq d c ∧ F M 34 = e1 (ok S T b n (num n c (d + 1) * n ^ (n - 1 - d))).1 ∧ BestO M F T n (ok S T b n (num n c (d + 1) * n ^ (n - 1 - d))).2) ∨
   (m = 0 ∧ st = (hv σ F, e1 0) ∧ F M 34 = e1 (ok S T b n (n ^ n)).1 ∧ BestO M F T n (ok S T b n (n ^ n)).2))
def OD (M : Nat) (σ : Hp) (f : Nat → Nat → Int32) (S : St) (T : Nat → Nat) (b n : Nat) (st : Hp × Int32) : Prop := ∃ F, RepM M (hv σ F) S ∧ (∀ a j, a < M ∨ M + 26 ≤ a → F a j = f a j) ∧ st = (hv σ F, e1 0) ∧ F M 34 = e1 (ok S T b n (n ^ n)).1 ∧ BestO M F T n (ok S T b n (n ^ n)).2
theorem RepM.s34 {M : Nat} {σ : Hp} {F : Nat → Nat → Int32} {S : St} (h : RepM M (hv σ F) S) (v : Int32) : RepM M (hv σ (u2 F M 34 v)) S := h.scrS 34 (by decide) v
theorem oi_step {M : Nat} {σ : Hp} {f : Nat → Nat → Int32} {S : St} (g : Good S) {T : Nat → Nat} {b n : Nat} (hb : b ≤ 1) (h1 : 1 ≤ n) (h8 : n ≤ 8) (m : Nat) (st : Hp × Int32) (hp : OI M σ f S T b n m st) : OD M σ f S T b n st ∨ ∃ m' st', m' < m ∧ OI M σ f S T b n m' st' ∧ ∀ rec, B_X10_findOrder_14 M (nI n) (nI b) rec st.1 st.2 = rec st' := by
  obtain ⟨F, rp, off, hT, hq⟩ := hp
  rcases hq with ⟨c, d, hd, hc, hcd, em, es, k1, k2, k3, k4, k5⟩ | ⟨em, es, k4, k5⟩
  case inr => exact Or.inl ⟨F, rp, off, es, k4, k5⟩
  right
  have s : SM M σ := rp.1
  subst es
  obtain ⟨F1, hF1⟩ : ∃ F1, F1 = u2 F (M + 20) d (nI (c d)) := ⟨_, rfl⟩
  have r1 : RepM M (hv σ F1) S := rp.sa 20 (by omega) (fun a j ha => by rw [hF1]; exact u2_n (by omega))
  have o1 : ∀ a j, ¬ (a = M + 20 ∧ j = d) → F1 a j = F a j := fun a j ha => by rw [hF1]; exact u2_n ha
  have T1 : ∀ k, k < n → T k < 24 ∧ F1 (M + 19) k = nI (T k) := fun k hk => ⟨(hT k hk).1, (o1 _ _ (by omega)).trans (hT k hk).2⟩
  have C1 : ∀ k, k < d → F1 (M + 20) k = nI (c k) := fun k hk => (o1 _ _ (by omega)).trans (k1 k hk)
  have Cd : F1 (M + 20) d = nI (c d) := by rw [hF1]; exact u2_e
  have C2 : ∀ k, k ≤ d → c k ≤ n ∧ F1 (M + 20) k = nI (c k) := fun k hk => by
    by_cases e : k = d
    · rw [e]; exact ⟨hcd, Cd⟩
    · exact ⟨by have := hc k (by omega); omega, C1 k (by omega)⟩
  have K4 : F1 M 34 = e1 (ok S T b n (num n c (d + 1) * n ^ (n - 1 - d))).1 := (o1 _ _ (by omega)).trans k4
  have K5 : BestO M F1 T n (ok S T b n (num n c (d + 1) * n ^ (n - 1 - d))).2 := fun z i hi => (o1 _ _ (by omega)).trans (k5 z i hi)
  have off1 : ∀ a j, a < M ∨ M + 26 ≤ a → F1 a j = f a j := fun a j ha => (o1 _ _ (by omega)).trans (off a j ha)
  have pb := ok_b g T b h8 (num n c (d + 1) * n ^ (n - 1 - d))
  -- the head of the loop
  have head : ∀ rec, B_X10_findOrder_14 M (nI n) (nI b) rec (hv σ F) (nI d) = F_X10_findOrder_74 rec (hv σ F1) M (nI n) (nI b) (nI d) (nI (if ∀ k, k < d → c k ≠ c d then 1 else 0)) := fun rec => by
    rw [← m_free s h8 hd C2 rec]
    rw [hF1]
    simp (decide := true) (disch := omega) only [B_X10_findOrder_14, gd_hv s.1, gI_hv s.1, pI_hv s.1, s.R32, s.A32, s.W32, b1_some, b2_some, litI, neg1, nI_add, nI_mul, e1_p1, nI_e0, ib, ib1, ite_not, if_true, if_false, not_true_eq_false, not_false_eq_true, setI_hv, lt_lit, show ¬ d < 0 by omega, k2]
  show ∃ m' st', m' < m ∧ OI M σ f S T b n m' st' ∧ ∀ rec, B_X10_findOrder_14 M (nI n) (nI b) rec (hv σ F) (nI d) = rec st'
  clear hF1
  by_cases q9 : c d = n
  · cases d with
    | zero =>
      have eP : num n c (0 + 1) * n ^ (n - 1 - 0) = n ^ n := by
        show (n * 0 + c 0) * n ^ (n - 1 - 0) = n ^ n
        rw [q9, Nat.mul_zero, Nat.zero_add, Nat.mul_comm, ← Nat.pow_succ]
        exact congrArg (fun k => n ^ k) (by omega)
      rw [eP] at K4 K5
      refine ⟨0, (hv σ F1, e1 0), by rw [em]; exact mt_pos (by omega), ⟨F1, r1, off1, T1, Or.inr ⟨rfl, rfl, K4, K5⟩⟩, fun rec => ?_⟩
      rw [head rec]
      rw [q9] at Cd
      rw [if_pos (fun k hk => absurd hk (Nat.not_lt_zero k))]
      simp (decide := true) (disch := omega) only [F_X10_findOrder_74, gd_hv s.1, gI_hv s.1, pI_hv s.1, s.R32, s.A32, s.W32, b1_some, b2_some, litI, neg1, nI_add, nI_mul, e1_p1, nI_e0, ib, ib1, ite_not, if_true, if_false, not_true_eq_false, not_false_eq_true, setI_hv, Cd, nI_e]
    | succ d =>
      have hcd' := hc d (by omega)
      have eP := num_back (b := n) (n := n) (c := c) hd q9
      refine ⟨mt n (up c d (c d + 1)) d, (hv σ F1, nI d), by rw [em]; exact mt_back (by omega) (by omega), ⟨F1, r1, off1, T1, Or.inl ⟨up c d (c d + 1), d, by omega, fun i hi => by rw [up_n (by omega)]; exact hc i (by omega), by rw [up_e]; omega, rfl, rfl, fun i hi => ?_, ?_, fun k hk j hj => ?_, ?_, ?_⟩⟩, fun rec => ?_⟩
      · rw [up_n (by omega)]
        exact C1 i (by omega)
      · rw [up_e, e1_s]
        exact C1 d (by omega)
      · rw [up_n (by omega), up_n (by omega)]
        exact k3 k (by omega) j hj
      · rw [eP]; exact K4
      · rw [eP]; exact K5
      · rw [head rec]
        rw [q9] at Cd
        generalize (if ∀ k, k < d + 1 → c k ≠ c (d + 1) then 1 else 0) = y
        simp (decide := true) (disch := omega) only [F_X10_findOrder_74, gd_hv s.1, gI_hv s.1, pI_hv s.1, s.R32, s.A32, s.W32, b1_some, b2_some, litI, neg1, nI_add, nI_mul, e1_p1, nI_e0, ib, ib1, ite_not, if_true, if_false, not_true_eq_false, not_false_eq_true, setI_hv, Cd, nI_e, e1_s]
  · have hcn : c d < n := by omega
    have hcl : ∀ i, i ≤ d → c i < n := fun i hi => by
      by_cases e : i = d
      · rw [e]; exact hcn
      · exact hc i (by omega)
    have stay : num n (up c d (c d + 1)) (d + 1) * n ^ (n - 1 - d) = num n c (d + 1) * n ^ (n - 1 - d) + n ^ (n - 1 - d) := by
      rw [num_stay, Nat.succ_mul]
    by_cases fr : ∀ k, k < d → c k ≠ c d
    · have hu : unq (d + 1) c := (unq_s d c).mpr ⟨k3, fr⟩
      by_cases qn : d + 1 = n
      · -- a leaf
        have z0 : n - 1 - d = 0 := by omega
        have eP : num n c (d + 1) * n ^ (n - 1 - d) = num n c (d + 1) := by rw [z0, Nat.pow_zero, Nat.mul_one]
        have eP' : num n (up c d (c d + 1)) (d + 1) * n ^ (n - 1 - d) = num n c (d + 1) + 1 := by rw [num_stay, z0, Nat.pow_zero, Nat.mul_one]
        have ev := o_leaf (S := S) (T := T) (b := b) qn hcl (by rw [← qn]; exact hu)
        have Cn : ∀ k, k < n → c k < n ∧ F1 (M + 20) k = nI (c k) := fun k hk => ⟨hcl k (by omega), (C2 k (by omega)).2⟩
        have sl := smo_le g T b c n (by omega)
        have ps := ok_s S T b n (num n c (d + 1))
        rw [ev] at ps
        rw [eP] at K4 K5 pb
        have sums : ∀ rec, F_X10_findOrder_74 rec (hv σ F1) M (nI n) (nI b) (nI d) (nI 1) = F_X10_findOrder_119 rec (hv σ F1) M (nI n) (nI b) (nI d) (nI (smo S T b c n)) := fun rec => by
          have dn : nI n - nI 1 = nI d := by rw [nI_sub (by omega), show n - 1 = d by omega]
          have b01 : b = 0 ∨ b = 1 := by omega
          rcases b01 with rfl | rfl
          · have sp := m_harm g r1 h8 T1 Cn
            simp (decide := true) (disch := omega) only [F_X10_findOrder_74, gd_hv s.1, gI_hv s.1, pI_hv s.1, s.R32, s.A32, s.W32, b1_some, b2_some, litI, neg1, nI_add, nI_mul, e1_p1, nI_e0, ib, ib1, ite_not, if_true, if_false, not_true_eq_false, not_false_eq_true, setI_hv, Cd, eq_lit, q9, dn, sp]
          · have sp := m_speech g r1 h1 h8 T1 Cn
            simp (decide := true) (disch := omega) only [F_X10_findOrder_74, gd_hv s.1, gI_hv s.1, pI_hv s.1, s.R32, s.A32, s.W32, b1_some, b2_some, litI, neg1, nI_add, nI_mul, e1_p1, nI_e0, ib, ib1, ite_not, if_true, if_false, not_true_eq_false, not_false_eq_true, setI_hv, Cd, eq_lit, q9, dn, sp]
        obtain ⟨v, hv'⟩ : ∃ v, v = smo S T b c n := ⟨_, rfl⟩
        rw [← hv'] at sums ps sl
        obtain ⟨o, ho⟩ : ∃ o, o = (ok S T b n (num n c (d + 1))).1 := ⟨_, rfl⟩
        rw [← ho] at ps K4 pb
        by_cases qb : o = 0 ∨ v + 1 < o
        · rw [if_pos ⟨by omega, qb⟩] at ps
          have cp := fun rec => m_cpy (F := u2 F1 M 34 (nI v)) s (x2 := nI b) (x3 := nI d) h8 (T := T) (c := c) (fun k hk => (u2_n (by omega)).trans (T1 k hk).2) (fun k hk => ⟨(Cn k hk).1, (u2_n (by omega)).trans (Cn k hk).2⟩) rec
          refine ⟨mt n (up c d (c d + 1)) d, (hv σ (fz (u2 F1 M 34 (nI v)) (M + 21) n (fun k => T (c k))), nI d), by rw [em]; exact mt_stay (by omega), ⟨_, (r1.s34 (nI v)).zz 21 _ _ (by omega), fun a j ha => ?_, fun k hk => ⟨(T1 k hk).1, ?_⟩, Or.inl ⟨up c d (c d + 1), d, hd, fun i hi => by rw [up_n (by omega)]; exact hc i hi, by rw [up_e]; omega, rfl, rfl, fun i hi => ?_, ?_, fun k hk j hj => ?_, ?_, ?_⟩⟩, fun rec => ?_⟩
          · rw [fz_off (by omega), u2_n (by omega)]
            exact off1 a j ha
          · rw [fz_off (by omega), u2_n (by omega)]
            exact (T1 k hk).2
          · rw [fz_off (by omega), u2_n (by omega), up_n (by omega)]
            exact C1 i hi
          · rw [fz_off (by omega), u2_n (by omega), up_e, e1_s]
            exact Cd
          · rw [up_n (by omega), up_n (by omega)]
            exact k3 k hk j hj
          · rw [fz_off (by omega), u2_e, eP', ps, e1_s]
          · rw [eP', ps]
            intro z i hi
            rw [fz_rd hi]
            show nI (T (c i)) = nI (T (dgb n n (num n c (d + 1) + 1 - 1) i))
            rw [Nat.add_sub_cancel, o_dig (d := d) (c := c) hd hcl (by rw [eP]; exact Nat.le_refl _) (by rw [eP, z0, Nat.pow_zero]; omega) (by omega)]
          · rw [head rec, if_pos fr, sums rec, ← cp rec]
            by_cases qz : o = 0
            · rw [qz] at K4
              simp (decide := true) (disch := omega) only [F_X10_findOrder_119, gd_hv s.1, gI_hv s.1, pI_hv s.1, b1_some, b2_some, litI, neg1, nI_add, nI_mul, e1_p1, nI_e0, ib, ib1, ite_not, if_true, if_false, not_true_eq_false, not_false_eq_true, setI_hv, K4]
            · have K4' := K4.trans (e1_of (by omega))
              simp (decide := true) (disch := omega) only [F_X10_findOrder_119, gd_hv s.1, gI_hv s.1, pI_hv s.1, b1_some, b2_some, litI, neg1, nI_add, nI_mul, e1_p1, nI_e0, ib, ib1, ite_not, if_true, if_false, not_true_eq_false, not_false_eq_true, setI_hv, K4', le_lit, show ¬ o - 1 ≤ v by omega]
        · rw [if_neg (fun z => qb z.2)] at ps
          refine ⟨mt n (up c d (c d + 1)) d, (hv σ F1, nI d), by rw [em]; exact mt_stay (by omega), ⟨F1, r1, off1, T1, Or.inl ⟨up c d (c d + 1), d, hd, fun i hi => by rw [up_n (by omega)]; exact hc i hi, by rw [up_e]; omega, rfl, rfl, fun i hi => ?_, ?_, fun k hk j hj => ?_, ?_, ?_⟩⟩, fun rec => ?_⟩
          · rw [up_n (by omega)]
            exact C1 i hi
          · rw [up_e, e1_s]
            exact Cd
          · rw [up_n (by omega), up_n (by omega)]
            exact k3 k hk j hj
          · rw [eP', ps, ← ho]
            exact K4
          · rw [eP', ps]
            exact K5
          · rw [head rec, if_pos fr, sums rec]
            have K4' := K4.trans (e1_of (by omega))
            simp (decide := true) (disch := omega) only [F_X10_findOrder_119, gd_hv s.1, gI_hv s.1, pI_hv s.1, b1_some, b2_some, litI, neg1, nI_add, nI_mul, e1_p1, nI_e0, ib, ib1, ite_not, if_true, if_false, not_true_eq_false, not_false_eq_true, setI_hv, K4', le_lit, show o - 1 ≤ v by omega]
      · -- one level further
        have eP := num_down (b := n) (n := n) (c := c) (d := d) (by omega)
        refine ⟨mt n (up c (d + 1) 0) (d + 1), (hv σ (u2 F1 (M + 20) (d + 1) (e1 0)), nI (d + 1)), by rw [em]; exact mt_down (by omega) hd, ⟨_, r1.sa 20 (by omega) (fun a j ha => u2_n (by omega)), fun a j ha => (u2_n (by omega)).trans (off1 a j ha), fun k hk => ⟨(T1 k hk).1, (u2_n (by omega)).trans (T1 k hk).2⟩, Or.inl ⟨up c (d + 1) 0, d + 1, by omega, fun i hi => ?_, by rw [up_e]; omega, rfl, rfl, fun i hi => ?_, ?_, fun k hk j hj => ?_, ?_, ?_⟩⟩, fun rec => ?_⟩
        · rw [up_n (by omega)]
          exact hcl i (by omega)
        · rw [u2_n (by omega), up_n (by omega)]
          exact (C2 i (by omega)).2
        · rw [u2_e, up_e]
        · rw [up_n (by omega), up_n (by omega)]
          exact hu k (by omega) j hj
        · rw [eP, u2_n (by omega)]
          exact K4
        · rw [eP]
          intro z i hi
          show u2 F1 (M + 20) (d + 1) (e1 0) (M + 21) i = _
          rw [u2_n (by omega)]
          exact K5 z i hi
        · rw [head rec, if_pos fr]
          have dn : (nI d = nI n - nI 1) = False := by
            rw [nI_sub (by omega), eq_lit (by omega) (by omega)]
            exact eq_false (by omega)
          simp (decide := true) (disch := omega) only [F_X10_findOrder_74, gd_hv s.1, gI_hv s.1, pI_hv s.1, s.R32, s.A32, s.W32, b1_some, b2_some, litI, neg1, nI_add, nI_mul, e1_p1, nI_e0, ib, ib1, ite_not, if_true, if_false, not_true_eq_false, not_false_eq_true, setI_hv, Cd, eq_lit, q9, dn]
    · -- a place met before
      refine ⟨mt n (up c d (c d + 1)) d, (hv σ F1, nI d), by rw [em]; exact mt_stay (by omega), ⟨F1, r1, off1, T1, Or.inl ⟨up c d (c d + 1), d, hd, fun i hi => by rw [up_n (by omega)]; exact hc i hi, by rw [up_e]; omega, rfl, rfl, fun i hi => ?_, ?_, fun k hk j hj => ?_, ?_, ?_⟩⟩, fun rec => ?_⟩
      · rw [up_n (by omega)]
        exact C1 i hi
      · rw [up_e, e1_s]
        exact Cd
      · rw [up_n (by omega), up_n (by omega)]
        exact k3 k hk j hj
      · rw [stay, o_dup hd hcl fr]
        exact K4
      · rw [stay, o_dup hd hcl fr]
        exact K5
      · rw [head rec, if_neg fr]
        simp (decide := true) (disch := omega) only [F_X10_findOrder_74, gd_hv s.1, gI_hv s.1, pI_hv s.1, s.R32, s.A32, s.W32, b1_some, b2_some, litI, neg1, nI_add, nI_mul, e1_p1, nI_e0, ib, ib1, ite_not, if_true, if_false, not_true_eq_false, not_false_eq_true, setI_hv, Cd, eq_lit, q9]
theorem m_find {M : Nat} {σ : Hp} {f : Nat → Nat → Int32} {S : St} (g : Good S) (h : RepM M (hv σ f) S) {T : Nat → Nat} {b n : Nat} (hb : b ≤ 1) (h1 : 1 ≤ n) (h8 : n ≤ 8) (hT : ∀ k, k < n → T k < 24 ∧ f (M + 19) k = nI (T k)) : ∃ F, F_X10_findOrder (hv σ f) M (nI n) (nI b) = some (hv σ F) ∧ RepM M (hv σ F) S ∧ (∀ a j, a < M ∨ M + 26 ≤ a → F a j = f a j) ∧ F M 34 = e1 (ok S T b n (n ^ n)).1 ∧ ∀ i, i < n → F (M + 21) i = nI (T (dgb n n ((ok S T b n (n ^ n)).2 - 1) i)) := by
  have s : SM M σ := h.1
  have n0 : num n (fun _ => 0) (0 + 1) * n ^ (n - 1 - 0) = 0 := by
    show (n * 0 + 0) * _ = 0
    rw [Nat.mul_zero, Nat.zero_add, Nat.zero_mul]
  obtain ⟨st, r, ⟨F, rp, off, es, k4, k5⟩, e⟩ := it_muF (body := fun rec st => B_X10_findOrder_14 M (nI n) (nI b) rec st.1 st.2) (OI M σ f S T b n) (OD M σ f S T b n) (oi_step g hb h1 h8) (mt n (fun _ => 0) 0) (hv σ (u2 (u2 f M 34 (e1 0)) (M + 20) 0 (e1 0)), nI 0) ⟨_, (h.s34 (e1 0)).sa 20 (by omega) (fun a j ha => u2_n (by omega)), fun a j ha => by rw [u2_n (by omega), u2_n (by omega)], fun k hk => ⟨(hT k hk).1, by rw [u2_n (by omega), u2_n (by omega)]; exact (hT k hk).2⟩, Or.inl ⟨fun _ => 0, 0, by omega, fun i hi => by omega, Nat.zero_le n, rfl, rfl, fun i hi => by omega, u2_e, fun k hk => absurd hk (Nat.not_lt_zero k), by rw [n0, u2_n (by omega), u2_e]; rfl, fun z => absurd (by rw [n0]; rfl) z⟩⟩ (mt_0 _ _ (by omega))
  subst es
  have nz := ok_full S T b h1
  refine ⟨F, ?_, rp, off, k4, k5 (fun z => nz (ok_z S T b n _ z))⟩
  have L0 : F_X10_findOrder (hv σ f) M (nI n) (nI b) = it (fun rec st => B_X10_findOrder_14 M (nI n) (nI b) rec st.1 st.2) FU (hv σ (u2 (u2 f M 34 (e1 0)) (M + 20) 0 (e1 0)), nI 0) := by
    unfold F_X10_findOrder
    simp (decide := true) (disch := omega) only [gd_hv s.1, gI_hv s.1, pI_hv s.1, s.R32, s.A32, s.W32, b1_some, b2_some, litI, neg1, nI_add, nI_mul, e1_p1, nI_e0, ib, ib1, ite_not, if_true, if_false, not_true_eq_false, not_false_eq_true, setI_hv]
    rfl
  rw [L0]
  refine e.trans ?_
  simp (decide := true) (disch := omega) only [B_X10_findOrder_14, b1_some, b2_some, litI, neg1, nI_add, nI_mul, e1_p1, nI_e0, ib, ib1, ite_not, if_true, if_false, not_true_eq_false, not_false_eq_true, setI_hv, e1_lt, Nat.le_refl]
/-! laid, code -/
def ordr (S : St) (T : Nat → Nat) (b n : Nat) (i : Int32) : Int32 := if i = -1 then e1 (ok S T b n (n ^ n)).1 else if nI n ≤ i then -1 else nI (T (dgb n n ((ok S T b n (n ^ n)).2 - 1) i.toNatClampNeg))
def oOrd (lo hi b : Nat) (x : Int64) (n i : Int32) (S : St) : Int32 × St := if inR n lo hi then (if thr n.toNatClampNeg x then (if unq n.toNatClampNeg (hdv x) ∧ -1 ≤ i then ordr S (if b = 1 then srt n.toNatClampNeg (hdv x) else hdv x) b n.toNatClampNeg i else -3) else -2, S) else (-3, S)
theorem ord_in {i : Int32} {n : Nat} (hn : n ≤ 8) (h : -1 ≤ i) : i = -1 ∨ nI n ≤ i ∨ ∃ j, j < n ∧ i = nI j := by
  have h1 := Int32.le_iff_toInt_le.mp h
  rw [m1_toInt] at h1
  by_cases q : i = -1
  · exact Or.inl q
  · right
    have q1 : i.toInt ≠ -1 := fun z => q (by rw [← Int32.toInt_inj, z, m1_toInt])
    by_cases q2 : (n : Int) ≤ i.toInt
    · left
      rw [Int32.le_iff_toInt_le, tI (by omega)]
      exact q2
    · right
      refine ⟨i.toInt.toNat, by omega, ?_⟩
      rw [← Int32.toInt_inj, tI (by omega)]
      omega
theorem m_xsort {M : Nat} {σ : Hp} {f : Nat → Nat → Int32} (s : SM M σ) {n : Nat} {A : Nat → Nat} {i : Int32} (h1 : 1 ≤ n) (h8 : n ≤ 8) (hA : ∀ k, k < n → A k ≤ 100) : L_X10_laid_42 M (nI n) i FU (hv σ (fz f (M + 19) n A), nI 0) = F_X10_laid_142 (hv σ (fz f (M + 19) n (srt n A))) M (nI n) i := by
  unfold L_X10_laid_42
  obtain ⟨m, hm⟩ := it_FU (body := fun rec st => B_X10_laid_42 M (nI n) i rec st.1 st.2) (fun a => (hv σ (fz f (M + 19) n (exO n A a)), nI a)) 0 n (by omega) (by omega) (fun a _ ha rec => by
    obtain ⟨o1, o2, o3⟩ := exO_ok (n := n) 100 hA a (by omega)
    have lp : L_X10_laid_54 rec M (nI n) i (nI a) FU (hv σ (fz f (M + 19) n (exO n A a)), nI (a + 1)) = rec (hv σ (fz f (M + 19) n (exI (exO n A a) a (n - 1 - a))), nI (a + 1)) := by
      unfold L_X10_laid_54
      obtain ⟨m', hm'⟩ := it_FU (body := fun rec' st => B_X10_laid_54 rec M (nI n) i (nI a) rec' st.1 st.2) (fun t => (hv σ (fz f (M + 19) n (exI (exO n A a) a t)), nI (a + 1 + t))) 0 (n - 1 - a) (by omega) (by omega) (fun t _ ht rec' => by
        obtain ⟨j1, j2, j3, j4⟩ := exI_ok (n := n) 100 o1 o3 t (by omega)
        show B_X10_laid_54 rec M (nI n) i (nI a) rec' (hv σ (fz f (M + 19) n (exI (exO n A a) a t))) (nI (a + 1 + t)) = rec' (hv σ (fz f (M + 19) n (exA (exI (exO n A a) a t) a (a + 1 + t))), nI (a + 1 + (t + 1)))
        generalize exI (exO n A a) a t = B at j4
        have b1 := j4 a ha
        have b2 := j4 (a + 1 + t) (by omega)
        have r1 : fz f (M + 19) n B (M + 19) a = nI (B a) := fz_rd ha
        have r2 : fz f (M + 19) n B (M + 19) (a + 1 + t) = nI (B (a + 1 + t)) := fz_rd (by omega)
        have ls := lss_le B a (a + 1 + t)
        unfold exA
        rw [← fz_up ha, ← fz_up (by omega)]
        generalize fz f (M + 19) n B = F at r1 r2
        have tail : F_X10_laid_94 rec rec' (hv σ F) M (nI n) i (nI a) (nI (a + 1 + t)) (nI (lss B a (a + 1 + t))) = rec' (hv σ (u2 (u2 F (M + 19) (a + 1 + t) (nI (B a + B (a + 1 + t) - lss B a (a + 1 + t)))) (M + 19) a (nI (lss B a (a + 1 + t)))), nI (a + 1 + (t + 1))) := by
          generalize lss B a (a + 1 + t) = L at ls
          simp (decide := true) (disch := omega) only [F_X10_laid_94, gd_hv s.1, gI_hv s.1, pI_hv s.1, s.R31, s.A31, s.W31, b1_some, b2_some, litI, neg1, nI_add, nI_mul, e1_p1, nI_e0, ib, ib1, ite_not, if_true, if_false, not_true_eq_false, not_false_eq_true, setI_hv, r1, r2, nI_sub]
          rfl
        rw [← tail]
        unfold lss
        by_cases q : B (a + 1 + t) ≤ B a
        · rw [if_pos q]
          simp (decide := true) (disch := omega) only [B_X10_laid_54, gd_hv s.1, gI_hv s.1, pI_hv s.1, s.R31, s.A31, s.W31, b1_some, b2_some, litI, neg1, nI_add, nI_mul, e1_p1, nI_e0, ib, ib1, ite_not, if_true, if_false, not_true_eq_false, not_false_eq_true, setI_hv, le_lit, show ¬ n ≤ a + 1 + t by omega, r1, r2, q]
        · rw [if_neg q]
          simp (decide := true) (disch := omega) only [B_X10_laid_54, gd_hv s.1, gI_hv s.1, pI_hv s.1, s.R31, s.A31, s.W31, b1_some, b2_some, litI, neg1, nI_add, nI_mul, e1_p1, nI_e0, ib, ib1, ite_not, if_true, if_false, not_true_eq_false, not_false_eq_true, setI_hv, le_lit, show ¬ n ≤ a + 1 + t by omega, r1, r2, q])
      refine Eq.trans hm' ?_
      show B_X10_laid_54 rec M (nI n) i (nI a) m' (hv σ (fz f (M + 19) n (exI (exO n A a) a (n - 1 - a)))) (nI (a + 1 + (n - 1 - a))) = _
      rw [show a + 1 + (n - 1 - a) = n by omega]
      simp (decide := true) (disch := omega) only [B_X10_laid_54, b1_some, b2_some, litI, neg1, nI_add, nI_mul, e1_p1, nI_e0, ib, ib1, ite_not, if_true, if_false, not_true_eq_false, not_false_eq_true, setI_hv, le_lit, Nat.le_refl]
    show B_X10_laid_42 M (nI n) i rec (hv σ (fz f (M + 19) n (exO n A a))) (nI a) = rec (hv σ (fz f (M + 19) n (exI (exO n A a) a (n - 1 - a))), nI (a + 1))
    rw [← lp]
    simp (decide := true) (disch := omega) only [B_X10_laid_42, b1_some, b2_some, litI, neg1, nI_add, nI_mul, e1_p1, nI_e0, ib, ib1, ite_not, if_true, if_false, not_true_eq_false, not_false_eq_true, setI_hv, le_lit, show ¬ n ≤ a by omega])
  refine Eq.trans hm ?_
  simp (decide := true) (disch := omega) only [B_X10_laid_42, b1_some, b2_some, litI, neg1, nI_add, nI_mul, e1_p1, nI_e0, ib, ib1, ite_not, if_true, if_false, not_true_eq_false, not_false_eq_true, setI_hv, le_lit, Nat.le_refl]
  rfl
theorem m_laid (M : Nat) (x : Int64) (n i : Int32) : OkMf M (fun σ => F_X10_laid σ M x n i) (oOrd 1 8 1 x n i) := by
  intro σ f S g h
  have s : SM M σ := h.1
  show ∃ f', F_X10_laid (hv σ f) M x n i = _ ∧ _
  unfold F_X10_laid
  rw [gd_hv s.1, x10_inR (hv σ f) n 1 8 1 8 rfl rfl, b2_some]
  rcases in_split n 1 8 (by omega) (by omega) with ⟨k, h1, h8, rfl⟩ | hk
  case inr =>
    have e : oOrd 1 8 1 x n i S = (-3, S) := if_neg hk
    rw [e, if_neg hk]
    exact ⟨f, rfl, h, fun _ _ _ => rfl⟩
  have e : oOrd 1 8 1 x (nI k) i S = (if thr k x then (if unq k (hdv x) ∧ -1 ≤ i then ordr S (srt k (hdv x)) 1 k i else -3) else -2, S) := by
    unfold oOrd
    rw [cl_I (by omega), if_pos (inR_of h1 h8 (by omega)), if_pos rfl]
  rw [e, if_pos (inR_of h1 h8 (by omega)), if_neg (by decide)]
  obtain ⟨f1, t1, t2, t3⟩ := m_take (f := f) s (n := k) (x := x) h8
  have r1 : RepM M (hv σ f1) S := h.sa 19 (by omega) t2
  rw [t1, b2_some]
  by_cases q1 : thr k x
  case neg =>
    rw [if_neg q1, if_neg (by decide), if_neg q1]
    exact ⟨f1, rfl, r1, fun a j ha => t2 a j (by omega)⟩
  rw [if_pos q1, if_pos q1]
  by_cases q2 : unq k (hdv x)
  case neg =>
    rw [if_neg q2, if_neg (by decide), if_neg (fun z => q2 z.1)]
    exact ⟨f1, rfl, r1, fun a j ha => t2 a j (by omega)⟩
  rw [if_pos q2, if_pos (show nI 1 = (1 : Int32) from rfl)]
  by_cases q3 : (-1 : Int32) ≤ i
  case neg =>
    rw [if_neg q3, if_neg (fun z => q3 z.2)]
    exact ⟨f1, rfl, r1, fun a j ha => t2 a j (by omega)⟩
  rw [if_pos q3, if_pos ⟨q2, q3⟩]
  have ef : f1 = fz f1 (M + 19) k (hdv x) := (fz_same (fun j hj => t3 q1 j hj)).symm
  have so := srt_ok (n := k) (A := hdv x) 23 (fun j hj => q1 j hj)
  have r2 : RepM M (hv σ (fz f1 (M + 19) k (srt k (hdv x)))) S := r1.zz 19 _ _ (by omega)
  obtain ⟨F, u1, u2', u3, u4, u5⟩ := m_find g r2 (T := srt k (hdv x)) (b := 1) (n := k) (by omega) h1 h8 (fun j hj => ⟨by have := so.2.2 j hj; omega, fz_rd hj⟩)
  refine ⟨F, ?_, u2', fun a j ha => (u3 a j ha).trans ((fz_off (by omega)).trans (t2 a j (by omega)))⟩
  have xs := m_xsort (f := f1) s (n := k) (A := hdv x) (i := i) h1 h8 (fun j hj => by have := q1 j hj; omega)
  rw [← ef] at xs
  show L_X10_laid_42 M (nI k) i FU (hv σ f1, nI 0) = _
  rw [xs]
  have u1' : F_X10_findOrder (hv σ (fz f1 (M + 19) k (srt k (hdv x)))) M (nI k) 1 = some (hv σ F) := u1
  unfold F_X10_laid_142 ordr
  rw [u1', b1_some]
  rcases ord_in h8 q3 with q | q | ⟨j, hj, rfl⟩
  · rw [if_pos q, if_pos q]
    simp (decide := true) (disch := omega) only [gd_hv s.1, gI_hv s.1, pI_hv s.1, b1_some, b2_some, litI, neg1, nI_add, nI_mul, e1_p1, nI_e0, ib, ib1, ite_not, if_true, if_false, not_true_eq_false, not_false_eq_true, setI_hv, u4]
  · by_cases q' : i = -1
    · rw [if_pos q', if_pos q']
      simp (decide := true) (disch := omega) only [gd_hv s.1, gI_hv s.1, pI_hv s.1, b1_some, b2_some, litI, neg1, nI_add, nI_mul, e1_p1, nI_e0, ib, ib1, ite_not, if_true, if_false, not_true_eq_false, not_false_eq_true, setI_hv, u4]
    · rw [if_neg q', if_neg q', if_pos q, if_pos q]
  · have n1 : ¬ nI j = -1 := by rw [nI_m1 (by omega)]; exact id
    have n2 : ¬ nI k ≤ nI j := by rw [le_lit (by omega) (by omega)]; omega
    rw [if_neg n1, if_neg n1, if_neg n2, if_neg n2, cl_I (by omega)]
    simp (decide := true) (disch := omega) only [gd_hv s.1, gI_hv s.1, pI_hv s.1, s.R33, s.A33, s.W33, b1_some, b2_some, litI, neg1, nI_add, nI_mul, e1_p1, nI_e0, ib, ib1, ite_not, if_true, if_false, not_true_eq_false, not_false_eq_true, setI_hv, u5]
theorem m_code (M : Nat) (x : Int64) (n i : Int32) : OkMf M (fun σ => F_X10_code σ M x n i) (oOrd 2 6 0 x n i) := by
  intro σ f S g h
  have s : SM M σ := h.1
  show ∃ f', F_X10_code (hv σ f) M x n i = _ ∧ _
  unfold F_X10_code
  rw [gd_hv s.1, x10_inR (hv σ f) n 2 6 2 6 rfl rfl, b2_some]
  rcases in_split n 2 6 (by omega) (by omega) with ⟨k, h1, h8, rfl⟩ | hk
  case inr =>
    have e : oOrd 2 6 0 x n i S = (-3, S) := if_neg hk
    rw [e, if_neg hk]
    exact ⟨f, rfl, h, fun _ _ _ => rfl⟩
  have e : oOrd 2 6 0 x (nI k) i S = (if thr k x then (if unq k (hdv x) ∧ -1 ≤ i then ordr S (hdv x) 0 k i else -3) else -2, S) := by
    unfold oOrd
    rw [cl_I (by omega), if_pos (inR_of h1 h8 (by omega)), if_neg (by decide : ¬ 0 = 1)]
  rw [e, if_pos (inR_of h1 h8 (by omega)), if_neg (by decide)]
  obtain ⟨f1, t1, t2, t3⟩ := m_take (f := f) s (n := k) (x := x) (by omega)
  have r1 : RepM M (hv σ f1) S := h.sa 19 (by omega) t2
  rw [t1, b2_some]
  by_cases q1 : thr k x
  case neg =>
    rw [if_neg q1, if_neg (by decide), if_neg q1]
    exact ⟨f1, rfl, r1, fun a j ha => t2 a j (by omega)⟩
  rw [if_pos q1, if_pos q1]
  by_cases q2 : unq k (hdv x)
  case neg =>
    rw [if_neg q2, if_neg (by decide), if_neg (fun z => q2 z.1)]
    exact ⟨f1, rfl, r1, fun a j ha => t2 a j (by omega)⟩
  rw [if_pos q2, if_pos (show nI 1 = (1 : Int32) from rfl)]
  by_cases q3 : (-1 : Int32) ≤ i
  case neg =>
    rw [if_neg q3, if_neg (fun z => q3 z.2)]
    exact ⟨f1, rfl, r1, fun a j ha => t2 a j (by omega)⟩
  rw [if_pos q3, if_pos ⟨q2, q3⟩]
  obtain ⟨F, u1, u2', u3, u4, u5⟩ := m_find g r1 (T := hdv x) (b := 0) (n := k) (by omega) (by omega) (by omega) (fun j hj => ⟨by have := q1 j hj; omega, t3 q1 j hj⟩)
  refine ⟨F, ?_, u2', fun a j ha => (u3 a j ha).trans (t2 a j (by omega))⟩
  have u1' : F_X10_findOrder (hv σ f1) M (nI k) 0 = some (hv σ F) := u1
  unfold ordr
  rw [u1', b1_some]
  rcases ord_in (by omega : k ≤ 8) q3 with q | q | ⟨j, hj, rfl⟩
  · rw [if_pos q, if_pos q]
    simp (decide := true) (disch := omega) only [gd_hv s.1, gI_hv s.1, pI_hv s.1, b1_some, b2_some, litI, neg1, nI_add, nI_mul, e1_p1, nI_e0, ib, ib1, ite_not, if_true, if_false, not_true_eq_false, not_false_eq_true, setI_hv, u4]
  · by_cases q' : i = -1
    · rw [if_pos q', if_pos q']
      simp (decide := true) (disch := omega) only [gd_hv s.1, gI_hv s.1, pI_hv s.1, b1_some, b2_some, litI, neg1, nI_add, nI_mul, e1_p1, nI_e0, ib, ib1, ite_not, if_true, if_false, not_true_eq_false, not_false_eq_true, setI_hv, u4]
    · rw [if_neg q', if_neg q', if_pos q, if_pos q]
  · have n1 : ¬ nI j = -1 := by rw [nI_m1 (by omega)]; exact id
    have n2 : ¬ nI k ≤ nI j := by rw [le_lit (by omega) (by omega)]; omega
    rw [if_neg n1, if_neg n1, if_neg n2, if_neg n2, cl_I (by omega)]
    simp (decide := true) (disch := omega) only [gd_hv s.1, gI_hv s.1, pI_hv s.1, s.R33, s.A33, s.W33, b1_some, b2_some, litI, neg1, nI_add, nI_mul, e1_p1, nI_e0, ib, ib1, ite_not, if_true, if_false, not_true_eq_false, not_false_eq_true, setI_hv, u5]
