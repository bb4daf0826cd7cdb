set_option maxRecDepth 100000
/-! pure law, the component's search for an order: class 8 -/
theorem x_met8 {N : Nat} {τ : Hp} {F : Nat → Nat → Int32} (s : SX N τ) {n d : Nat} {c : Nat → Nat} (h8 : n ≤ 8) (hd : d < n) (hc : ∀ k, k ≤ d → c k ≤ n ∧ F (N + 228) k = nI (c k)) : F_X6_isMet_8 (hv τ F) (N + 227) (nI d) = some (nI (if ∀ k, k < d → c k ≠ c d then 0 else 1), hv τ F) := by
  unfold F_X6_isMet_8 L_X6_isMet_8_4
  rw [gd_hv s.t227]
  have cd := hc d (Nat.le_refl _)
  obtain ⟨m, hm⟩ := it_FU (body := fun rec' st => B_X6_isMet_8_4 (hv τ F) (N + 227) (nI d) rec' st.1 st.2) (fun t => (nI (if ∀ k, k < t → c k ≠ c d then 0 else 1), nI t)) 0 d (by omega) (by omega) (fun t _ ht rec' => by
    have ct := hc t (by omega)
    show B_X6_isMet_8_4 (hv τ F) (N + 227) (nI d) rec' (nI (if ∀ k, k < t → c k ≠ c d then 0 else 1)) (nI t) = rec' (nI (if ∀ k, k < t + 1 → c k ≠ c d then 0 else 1), nI (t + 1))
    by_cases q1 : ∀ k, k < t → c k ≠ c d
    · rw [if_pos q1]
      by_cases q2 : c t = c d
      · rw [if_neg (fun u => u t (by omega) q2)]
        simp (decide := true) (disch := omega) only [B_X6_isMet_8_4, s.R227_0, s.A228, b1_some, b2_some, litI, neg1, nI_add, nI_mul, e1_p1, nI_e0, ib, ib1, ite_not, if_true, if_false, not_true_eq_false, not_false_eq_true, setI_hv, le_lit, eq_lit, show ¬ d ≤ t by omega, ct.2, cd.2, q2]
      · rw [if_pos (fun k hk => by
          by_cases e : k = t
          · rw [e]; exact q2
          · exact q1 k (by omega))]
        simp (decide := true) (disch := omega) only [B_X6_isMet_8_4, s.R227_0, s.A228, b1_some, b2_some, litI, neg1, nI_add, nI_mul, e1_p1, nI_e0, ib, ib1, ite_not, if_true, if_false, not_true_eq_false, not_false_eq_true, setI_hv, le_lit, eq_lit, show ¬ d ≤ t by omega, ct.2, cd.2, q2]
    · rw [if_neg q1, if_neg (fun u => q1 (fun k hk => u k (by omega)))]
      simp (decide := true) (disch := omega) only [B_X6_isMet_8_4, b1_some, b2_some, litI, neg1, nI_add, nI_mul, e1_p1, nI_e0, ib, ib1, ite_not, if_true, if_false, not_true_eq_false, not_false_eq_true, setI_hv, le_lit, eq_lit, show ¬ d ≤ t by omega])
  have z1 : ∀ t, t = 0 → (if ∀ k, k < t → c k ≠ c d then 0 else 1) = 0 := fun t ht => if_pos (fun k hk => by omega)
  rw [z1 0 rfl] at hm
  refine Eq.trans hm ?_
  show B_X6_isMet_8_4 (hv τ F) (N + 227) (nI d) m (nI (if ∀ k, k < d → c k ≠ c d then 0 else 1)) (nI d) = _
  by_cases q : ∀ k, k < d → c k ≠ c d
  · rw [if_pos q]
    simp (decide := true) (disch := omega) only [B_X6_isMet_8_4, b1_some, b2_some, litI, neg1, nI_add, nI_mul, e1_p1, nI_e0, ib, ib1, ite_not, if_true, if_false, not_true_eq_false, not_false_eq_true, setI_hv, le_lit, Nat.le_refl, zr_0']
  · rw [if_neg q]
    simp (decide := true) (disch := omega) only [B_X6_isMet_8_4, b1_some, b2_some, litI, neg1, nI_add, nI_mul, e1_p1, nI_e0, ib, ib1, ite_not, if_true, if_false, not_true_eq_false, not_false_eq_true, setI_hv, le_lit, Nat.le_refl, zr_1']
theorem x_more8 {N : Nat} {τ : Hp} {F : Nat → Nat → Int32} {S : St} (g : Good S) (s : SX N τ) (lk : LkX N F S) (rg : ∀ a b, a < 10 → b < 10 → F (N + (214 + a)) b = nI (S.2 38 (10 * a + b))) {n d : Nat} {T c : Nat → Nat} (h8 : n ≤ 8) (hd : d < n) (hT : ∀ k, k < n → T k < 24 ∧ F (N + 212) k = nI (T k)) (hc : ∀ k, k ≤ d → c k < n ∧ F (N + 228) k = nI (c k)) : F_X8_more (hv τ F) (N + 227) (N + 228) (nI d) = some (nI (inc S T 0 c d), hv τ F) := by
  unfold F_X8_more L_X8_more_5 inc
  rw [gd_hv s.t227, if_neg (by decide : ¬ 0 = 1)]
  have c1 := hc d (Nat.le_refl _)
  have t1 := hT (c d) c1.1
  obtain ⟨m, hm⟩ := it_FU (body := fun rec st => B_X8_more_5 (N + 227) (N + 228) (nI d) rec st.1 st.2.1 st.2.2) (fun k => (hv τ F, nI (sumR (fun k => S.2 38 (10 * k + d) * lkn S (T (c k)) (T (c d))) 0 k), nI k)) 0 d (by omega) (by omega) (fun k _ hk rec => by
    have c2 := hc k (by omega)
    have t2 := hT (c k) c2.1
    have l := xl_lk g s lk (a := T (c k)) (b := T (c d)) t2.1 t1.1
    have al := rg k d (by omega) (by omega)
    show B_X8_more_5 (N + 227) (N + 228) (nI d) rec (hv τ F) (nI (sumR (fun k => S.2 38 (10 * k + d) * lkn S (T (c k)) (T (c d))) 0 k)) (nI k) = rec (hv τ F, nI (sumR (fun k => S.2 38 (10 * k + d) * lkn S (T (c k)) (T (c d))) 0 k + S.2 38 (10 * (0 + k) + d) * lkn S (T (c (0 + k))) (T (c d))), nI (k + 1))
    rw [Nat.zero_add]
    generalize sumR (fun k => S.2 38 (10 * k + d) * lkn S (T (c k)) (T (c d))) 0 k = y
    simp (decide := true) (disch := omega) only [B_X8_more_5, s.R227_5, s.R16, s.R15, s.K, s.AK, s.A228, s.A212, b1_some, b2_some, litI, neg1, nI_add, nI_mul, e1_p1, nI_e0, ib, ib1, ite_not, if_true, if_false, not_true_eq_false, not_false_eq_true, setI_hv, le_lit, show ¬ d ≤ k by omega, c1.2, c2.2, t1.2, t2.2, l, al])
  refine Eq.trans hm ?_
  simp (decide := true) (disch := omega) only [B_X8_more_5, b1_some, b2_some, litI, neg1, nI_add, nI_mul, e1_p1, nI_e0, ib, ib1, ite_not, if_true, if_false, not_true_eq_false, not_false_eq_true, setI_hv, le_lit, Nat.le_refl]
def BestX8 (N : Nat) (F : Nat → Nat → Int32) (n k : Nat) : Prop := k ≠ 0 → ∀ i, i < n → F (N + 229) i = nI (dgb n n (k - 1) i)
def RI8 (N Z : Nat) (σ τ : Hp) (f : Nat → Nat → Int32) (S : St) (T : Nat → Nat) (n m : Nat) (st : Hp × Int32) : Prop := ∃ F, RepX N (hv σ F) S ∧ (∀ a j, a < N ∨ (N + 245 ≤ a ∧ a < Z) → F a j = f a j) ∧ (∀ k, k < n → T k < 24 ∧ F (N + 212) k = nI (T k)) ∧ F (N + 227) 2 = nI n ∧
  ((∃ c d, d < n ∧ (∀ i, i < d → c i < n) ∧ c d ≤ n ∧ m = mt n c d ∧ st = (hv τ F, nI d) ∧ (∀ i, i < d → F (N + 228) i = nI (c i)) ∧ F (N + 228) d = e1 (c d) ∧ unq d c ∧ (∀ i, i ≤ d → F Z i = nI (smo S T 0 c i)) ∧ F (N + 227) 3 = lsx (ok S T 0 n (num n c (d + 1) * n ^ (n - 1 - d))).1 ∧ BestX8 N F n (ok S T 0 n (num n c (d + 1) * n ^ (n - 1 - d))).2) ∨
   (m = 0 ∧ st = (hv τ F, e1 0) ∧ F (N + 227) 3 = lsx (ok S T 0 n (n ^ n)).1 ∧ BestX8 N F n (ok S T 0 n (n ^ n)).2))
def RDn8 (N Z : Nat) (σ τ : Hp) (f : Nat → Nat → Int32) (S : St) (T : Nat → Nat) (n : Nat) (st : Hp × Int32) : Prop := ∃ F, RepX N (hv σ F) S ∧ (∀ a j, a < N ∨ (N + 245 ≤ a ∧ a < Z) → F a j = f a j) ∧ (∀ k, k < n → T k < 24 ∧ F (N + 212) k = nI (T k)) ∧ st = (hv τ F, e1 0) ∧ F (N + 227) 3 = lsx (ok S T 0 n (n ^ n)).1 ∧ BestX8 N F n (ok S T 0 n (n ^ n)).2
theorem ri_step8 {N Z : Nat} {σ τ : Hp} {f : Nat → Nat → Int32} {S : St} (g : Good S) (s : SX N τ) (hZZ : hZ σ = Z) (hZN : N + 271 ≤ Z) (hz : aN 0 Z τ = some 9) {T : Nat → Nat} {n : Nat} (h1 : 1 ≤ n) (h8 : n ≤ 8) (m : Nat) (st : Hp × Int32) (hp : RI8 N Z σ τ f S T n m st) : RDn8 N Z σ τ f S T n st ∨ ∃ m' st', m' < m ∧ RI8 N Z σ τ f S T n m' st' ∧ ∀ rec, B_X6_run_8_25 (N + 227) Z rec st.1 st.2 = rec st' := by
  obtain ⟨F, rp, off, hT, hM, hq⟩ := hp
  rcases hq with ⟨c, d, hd, hc, hcd, em, es, k1, k2, k3, ks, k4, k5⟩ | ⟨em, es, k4, k5⟩
  case inr => exact Or.inl ⟨F, rp, off, hT, es, k4, k5⟩
  right
  subst es
  have AZ : ∀ (G : Nat → Nat → Int32) (i : Nat), i < 9 → aI 0 Z (nI i) (hv τ G) = some (G Z i) := fun G i hi => aI_hv hz (by omega) hi
  have WZ : ∀ (G : Nat → Nat → Int32) (i : Nat) (v : Int32), i < 9 → sI 0 Z (nI i) v (hv τ G) = some (hv τ (u2 G Z i v)) := fun G i v hi => sI_hv hz (by omega) hi
  obtain ⟨F1, hF1⟩ : ∃ F1, F1 = u2 F (N + 228) d (nI (c d)) := ⟨_, rfl⟩
  have o1 : ∀ a j, ¬ (a = N + 228 ∧ j = d) → F1 a j = F a j := fun a j ha => by rw [hF1]; exact u2_n ha
  have r1 : RepX N (hv σ F1) S := rp.sx (fun a k ha => o1 a k (fun q => ha 228 (by omega) q.1))
  have T1 : ∀ k, k < n → T k < 24 ∧ F1 (N + 212) k = nI (T k) := fun k hk => ⟨(hT k hk).1, (o1 _ _ (by omega)).trans (hT k hk).2⟩
  have M1 : F1 (N + 227) 2 = nI n := (o1 _ _ (by omega)).trans hM
  have C1 : ∀ k, k < d → F1 (N + 228) k = nI (c k) := fun k hk => (o1 _ _ (by omega)).trans (k1 k hk)
  have Cd : F1 (N + 228) d = nI (c d) := by rw [hF1]; exact u2_e
  have C2 : ∀ k, k ≤ d → c k ≤ n ∧ F1 (N + 228) k = nI (c k) := fun k hk => by
    by_cases e : k = d
    · rw [e]; exact ⟨hcd, Cd⟩
    · exact ⟨by have := hc k (by omega); omega, C1 k (by omega)⟩
  have KS : ∀ i, i ≤ d → F1 Z i = nI (smo S T 0 c i) := fun i hi => (o1 _ _ (by omega)).trans (ks i hi)
  have K4 : F1 (N + 227) 3 = lsx (ok S T 0 n (num n c (d + 1) * n ^ (n - 1 - d))).1 := (o1 _ _ (by omega)).trans k4
  have K5 : BestX8 N F1 n (ok S T 0 n (num n c (d + 1) * n ^ (n - 1 - d))).2 := fun z i hi => (o1 _ _ (by omega)).trans (k5 z i hi)
  have off1 : ∀ a j, a < N ∨ (N + 245 ≤ a ∧ a < Z) → F1 a j = f a j := fun a j ha => (o1 _ _ (by omega)).trans (off a j ha)
  have pb := ok_b g T 0 h8 (num n c (d + 1) * n ^ (n - 1 - d))
  have head : ∀ rec, B_X6_run_8_25 (N + 227) Z rec (hv τ F) (nI d) = (if nI (c d) = nI n then rec (hv τ F1, e1 d) else b2 (F_X6_isMet_8 (hv τ F1) (N + 227) (nI d)) (fun v6 s2 => (if v6 = nI 0 then b1 (aI 0 Z (nI d) s2) (fun v7 => b1 (gR 8 0 (N + 227) s2) (fun v8 => b2 (F_X8_more s2 (N + 227) v8 (nI d)) (fun v9 s3 => b1 (sI 0 Z (nI (d + 1)) (v7 + v9) s3) (fun s4 => b1 (aI 0 Z (nI (d + 1)) s4) (fun v10 => b1 (gI 8 3 (N + 227) s4) (fun v11 => (if v10 < v11 then b1 (gI 8 2 (N + 227) s4) (fun v12 => (if nI d = (v12 - nI 1) then b1 (gI 8 2 (N + 227) s4) (fun v14 => b1 (aI 0 Z v14 s4) (fun v15 => b1 (pI 8 3 (N + 227) v15 s4) (fun s6 => b1 (gR 8 0 (N + 227) s6) (fun v16 => b1 (gR 8 1 (N + 227) s6) (fun v17 => b1 (gI 8 2 (N + 227) s6) (fun v18 => b1 (cpI v16 (nI 0) v17 (nI 0) v18 s6) (fun s7 => rec (s7, nI d)))))))) else b1 (gR 8 0 (N + 227) s4) (fun v13 => b1 (sI 0 v13 (nI (d + 1)) (e1 0) s4) (fun s5 => rec (s5, nI (d + 1)))))) else rec (s4, nI d)))))))) else rec (s2, nI d)))) := fun rec => by
    have M2 : u2 F (N + 228) d (nI (c d)) (N + 227) 2 = nI n := (u2_n (by omega)).trans hM
    rw [hF1]
    unfold B_X6_run_8_25
    rw [if_neg (by rw [litI 0, lt_lit (by omega) (by omega)]; omega)]
    simp (decide := true) (disch := omega) only [gI_hv s.t227, s.R227_0, s.A228, s.W228, b1_some, litI, k2, e1_p1, u2_e, M2, nI_add, nI_e, neg1]
  show ∃ m' st', m' < m ∧ RI8 N Z σ τ f S T n m' st' ∧ ∀ rec, B_X6_run_8_25 (N + 227) Z rec (hv τ F) (nI d) = rec st'
  clear hF1
  by_cases q9 : c d = n
  · have head' : ∀ rec, B_X6_run_8_25 (N + 227) Z rec (hv τ F) (nI d) = rec (hv τ F1, e1 d) := fun rec => (head rec).trans (if_pos (by rw [q9]))
    cases d with
    | zero =>
      have eP : num n c (0 + 1) * n ^ (n - 1 - 0) = n ^ n := by
        show (n * 0 + c 0) * n ^ (n - 1 - 0) = n ^ n
        rw [q9, Nat.mul_zero, Nat.zero_add, Nat.mul_comm, ← Nat.pow_succ]
        exact congrArg (fun k => n ^ k) (by omega)
      rw [eP] at K4 K5
      exact ⟨0, (hv τ F1, e1 0), by rw [em]; exact mt_pos (by omega), ⟨F1, r1, off1, T1, M1, Or.inr ⟨rfl, rfl, K4, K5⟩⟩, head'⟩
    | succ d =>
      have hcd' := hc d (by omega)
      have eP := num_back (b := n) (n := n) (c := c) hd q9
      refine ⟨mt n (up c d (c d + 1)) d, (hv τ F1, nI d), by rw [em]; exact mt_back (by omega) (by omega), ⟨F1, r1, off1, T1, M1, Or.inl ⟨up c d (c d + 1), d, by omega, fun i hi => by rw [up_n (by omega)]; exact hc i (by omega), by rw [up_e]; omega, rfl, rfl, fun i hi => ?_, ?_, fun k hk j hj => ?_, fun i hi => ?_, ?_, ?_⟩⟩, fun rec => (head' rec).trans (by rw [e1_s])⟩
      · rw [up_n (by omega)]
        exact C1 i (by omega)
      · rw [up_e, e1_s]
        exact C1 d (by omega)
      · rw [up_n (by omega), up_n (by omega)]
        exact k3 k (by omega) j hj
      · rw [smo_cg (c := up c d (c d + 1)) (c' := c) i (fun k hk => up_n (by omega))]
        exact KS i (by omega)
      · rw [eP]; exact K4
      · rw [eP]; exact K5
  · have hcn : c d < n := by omega
    have hcl : ∀ i, i ≤ d → c i < n := fun i hi => by
      by_cases e : i = d
      · rw [e]; exact hcn
      · exact hc i (by omega)
    have nq : ¬ nI (c d) = nI n := by rw [eq_lit (by omega) (by omega)]; exact q9
    have stay : num n (up c d (c d + 1)) (d + 1) * n ^ (n - 1 - d) = num n c (d + 1) * n ^ (n - 1 - d) + n ^ (n - 1 - d) := by
      rw [num_stay, Nat.succ_mul]
    have mt' := x_met8 s h8 hd C2
    by_cases fr : ∀ k, k < d → c k ≠ c d
    · have hu : unq (d + 1) c := (unq_s d c).mpr ⟨k3, fr⟩
      rw [if_pos fr] at mt'
      have C3 : ∀ k, k ≤ d → c k < n ∧ F1 (N + 228) k = nI (c k) := fun k hk => ⟨hcl k hk, (C2 k hk).2⟩
      have mo := x_more8 g s r1.lk (fun a b ha hb => r1.a38 ha hb) h8 hd T1 C3
      have sl : smo S T 0 c (d + 1) ≤ 576 * (d + 1) := smo_le g T 0 c (d + 1) (by omega)
      have es : smo S T 0 c d + inc S T 0 c d = smo S T 0 c (d + 1) := rfl
      have KSd := KS d (Nat.le_refl _)
      obtain ⟨F2, hF2⟩ : ∃ F2, F2 = u2 F1 Z (d + 1) (nI (smo S T 0 c (d + 1))) := ⟨_, rfl⟩
      have o2 : ∀ a j, a ≠ Z → F2 a j = F1 a j := fun a j ha => by rw [hF2]; exact u2_n (by omega)
      have r2 : RepX N (hv σ F2) S := r1.sz (fun a k ha _ => o2 a k (by omega))
      have T2 : ∀ k, k < n → T k < 24 ∧ F2 (N + 212) k = nI (T k) := fun k hk => ⟨(hT k hk).1, (o2 _ _ (by omega)).trans (T1 k hk).2⟩
      have M2 : F2 (N + 227) 2 = nI n := (o2 _ _ (by omega)).trans M1
      have D1 : ∀ k, k < d → F2 (N + 228) k = nI (c k) := fun k hk => (o2 _ _ (by omega)).trans (C1 k hk)
      have Dd : F2 (N + 228) d = nI (c d) := (o2 _ _ (by omega)).trans Cd
      have L4 : F2 (N + 227) 3 = lsx (ok S T 0 n (num n c (d + 1) * n ^ (n - 1 - d))).1 := (o2 _ _ (by omega)).trans K4
      have L5 : BestX8 N F2 n (ok S T 0 n (num n c (d + 1) * n ^ (n - 1 - d))).2 := fun z i hi => (o2 _ _ (by omega)).trans (K5 z i hi)
      have LS : ∀ i, i ≤ d + 1 → F2 Z i = nI (smo S T 0 c i) := fun i hi => by
        rw [hF2]
        by_cases e : i = d + 1
        · rw [e]; exact u2_e
        · rw [u2_n (by omega)]
          exact KS i (by omega)
      have off2 : ∀ a j, a < N ∨ (N + 245 ≤ a ∧ a < Z) → F2 a j = f a j := fun a j ha => (o2 _ _ (by omega)).trans (off1 a j ha)
      have head2 : ∀ rec, B_X6_run_8_25 (N + 227) Z rec (hv τ F) (nI d) = (if nI (smo S T 0 c (d + 1)) < F2 (N + 227) 3 then (if nI d = (nI n - nI 1) then b1 (pI 8 3 (N + 227) (F2 Z n) (hv τ F2)) (fun s6 => b1 (gR 8 0 (N + 227) s6) (fun v16 => b1 (gR 8 1 (N + 227) s6) (fun v17 => b1 (gI 8 2 (N + 227) s6) (fun v18 => b1 (cpI v16 (nI 0) v17 (nI 0) v18 s6) (fun s7 => rec (s7, nI d)))))) else b1 (gR 8 0 (N + 227) (hv τ F2)) (fun v13 => b1 (sI 0 v13 (nI (d + 1)) (e1 0) (hv τ F2)) (fun s5 => rec (s5, nI (d + 1))))) else rec (hv τ F2, nI d)) := fun rec => by
        have e2 : F2 Z (d + 1) = nI (smo S T 0 c (d + 1)) := LS (d + 1) (Nat.le_refl _)
        rw [head rec, if_neg nq, mt', b2_some, if_pos rfl, AZ F1 d (by omega), b1_some, s.R227_0, b1_some, mo, b2_some, WZ _ _ _ (by omega), b1_some, KSd, nI_add, es, ← hF2, AZ F2 (d + 1) (by omega), b1_some, gI_hv s.t227, b1_some, e2]
        simp only [gI_hv s.t227, b1_some, M2]
        rw [AZ F2 n (by omega), b1_some]
      clear hF2
      obtain ⟨v, hv'⟩ : ∃ v, v = smo S T 0 c (d + 1) := ⟨_, rfl⟩
      obtain ⟨o, ho⟩ : ∃ o, o = (ok S T 0 n (num n c (d + 1) * n ^ (n - 1 - d))).1 := ⟨_, rfl⟩
      rw [← ho] at L4 pb
      rw [← hv'] at head2 sl
      have lt' : (nI v < F2 (N + 227) 3) = (o = 0 ∨ v + 1 < o) := by
        rw [L4]
        unfold lsx
        by_cases z : o = 0
        · rw [if_pos z, lt_lit (by omega) (by omega)]
          exact propext ⟨fun _ => Or.inl z, fun _ => by omega⟩
        · rw [if_neg z, lt_lit (by omega) (by omega)]
          exact propext ⟨fun _ => Or.inr (by omega), fun w => by omega⟩
      by_cases qb : o = 0 ∨ v + 1 < o
      · by_cases qn : d + 1 = n
        · -- a leaf
          have z0 : n - 1 - d = 0 := by omega
          have eP : num n c (d + 1) * n ^ (n - 1 - d) = num n c (d + 1) := by rw [z0, Nat.pow_zero, Nat.mul_one]
          have eP' : num n (up c d (c d + 1)) (d + 1) * n ^ (n - 1 - d) = num n c (d + 1) + 1 := by rw [num_stay, z0, Nat.pow_zero, Nat.mul_one]
          have ev := o_leaf (S := S) (T := T) (b := 0) qn hcl (by rw [← qn]; exact hu)
          have evn : smo S T 0 c n = v := by rw [hv', qn]
          rw [evn] at ev
          have ps := ok_s S T 0 n (num n c (d + 1))
          rw [eP] at ho
          rw [ev, ← ho, if_pos ⟨by omega, qb⟩] at ps
          have dn : (nI d = nI n - nI 1) = True := by rw [nI_sub (by omega), show n - 1 = d by omega]; exact eq_true rfl
          have Zn : F2 Z n = nI v := by rw [LS n (by omega), evn]
          have cp := cp_hv (τ := τ) (F := u2 F2 (N + 227) 3 (nI v)) (a0 := N + 228) (a := N + 229) (n := n) s.n228 s.n229 h8
          refine ⟨mt n (up c d (c d + 1)) d, (hv τ (fy (u2 F2 (N + 227) 3 (nI v)) (N + 229) n (fun j => u2 F2 (N + 227) 3 (nI v) (N + 228) j)), nI d), by rw [em]; exact mt_stay (by omega), ⟨_, r2.sx (fun a k ha => (fy_off (fun q => ha 229 (by omega) q.1)).trans (u2_n (fun q => ha 227 (by omega) q.1))), fun a j ha => ?_, fun k hk => ⟨(T2 k hk).1, ?_⟩, ?_, Or.inl ⟨up c d (c d + 1), d, hd, fun i hi => by rw [up_n (by omega)]; exact hc i hi, by rw [up_e]; omega, rfl, rfl, fun i hi => ?_, ?_, fun k hk j hj => ?_, fun i hi => ?_, ?_, ?_⟩⟩, fun rec => ?_⟩
          · rw [fy_off (by omega), u2_n (by omega)]
            exact off2 a j ha
          · rw [fy_off (by omega), u2_n (by omega)]
            exact (T2 k hk).2
          · rw [fy_off (by omega), u2_n (by omega)]
            exact M2
          · rw [fy_off (by omega), u2_n (by omega), up_n (by omega)]
            exact D1 i hi
          · rw [fy_off (by omega), u2_n (by omega), up_e, e1_s]
            exact Dd
          · rw [up_n (by omega), up_n (by omega)]
            exact k3 k hk j hj
          · rw [fy_off (by omega), u2_n (by omega), smo_cg (c := up c d (c d + 1)) (c' := c) i (fun k hk => up_n (by omega))]
            exact LS i (by omega)
          · rw [fy_off (by omega), u2_e, eP', ps]
            unfold lsx
            rw [if_neg (by omega), Nat.add_sub_cancel]
          · rw [eP', ps]
            intro z i hi
            refine Eq.trans (fy_rd hi) ?_
            show u2 F2 (N + 227) 3 (nI v) (N + 228) i = nI (dgb n n (num n c (d + 1) + 1 - 1) i)
            rw [u2_n (by omega), Nat.add_sub_cancel, o_dig (d := d) (c := c) hd hcl (by rw [eP]; exact Nat.le_refl _) (by rw [eP, z0, Nat.pow_zero]; omega) (by omega)]
            by_cases e : i = d
            · rw [e]; exact Dd
            · exact D1 i (by omega)
          · rw [head2 rec, if_pos (lt' ▸ qb), if_pos (dn ▸ trivial), Zn, pI_hv s.t227, b1_some, s.R227_0, b1_some, s.R227_1, b1_some, gI_hv s.t227, b1_some, u2_n (by omega), M2, cp, b1_some]
        · -- one level further
          have eP := num_down (b := n) (n := n) (c := c) (d := d) (by omega)
          have dn : ¬ (nI d = nI n - nI 1) := by
            rw [nI_sub (by omega), eq_lit (by omega) (by omega)]
            omega
          refine ⟨mt n (up c (d + 1) 0) (d + 1), (hv τ (u2 F2 (N + 228) (d + 1) (e1 0)), nI (d + 1)), by rw [em]; exact mt_down (by omega) hd, ⟨_, r2.sx (fun a k ha => u2_n (fun q => ha 228 (by omega) q.1)), fun a j ha => (u2_n (by omega)).trans (off2 a j ha), fun k hk => ⟨(T2 k hk).1, (u2_n (by omega)).trans (T2 k hk).2⟩, (u2_n (by omega)).trans M2, Or.inl ⟨up c (d + 1) 0, d + 1, by omega, fun i hi => ?_, by rw [up_e]; omega, rfl, rfl, fun i hi => ?_, ?_, fun k hk j hj => ?_, fun i hi => ?_, ?_, ?_⟩⟩, fun rec => ?_⟩
          · rw [up_n (by omega)]
            exact hcl i (by omega)
          · rw [u2_n (by omega), up_n (by omega)]
            by_cases e : i = d
            · rw [e]; exact Dd
            · exact D1 i (by omega)
          · rw [u2_e, up_e]
          · rw [up_n (by omega), up_n (by omega)]
            exact hu k (by omega) j hj
          · rw [u2_n (by omega), smo_cg (c := up c (d + 1) 0) (c' := c) i (fun k hk => up_n (by omega))]
            exact LS i hi
          · rw [eP, ← ho, u2_n (by omega)]
            exact L4
          · rw [eP]
            intro z i hi
            show u2 F2 (N + 228) (d + 1) (e1 0) (N + 229) i = _
            rw [u2_n (by omega)]
            exact L5 z i hi
          · rw [head2 rec, if_pos (lt' ▸ qb), if_neg dn, s.R227_0, b1_some, s.W228 (by omega), b1_some]
      · -- too much already
        have pr := o_prune (S := S) (T := T) (b := 0) hd hcl (by rw [← ho]; omega) (by rw [← ho, ← hv']; omega)
        refine ⟨mt n (up c d (c d + 1)) d, (hv τ F2, nI d), by rw [em]; exact mt_stay (by omega), ⟨F2, r2, off2, T2, M2, Or.inl ⟨up c d (c d + 1), d, hd, fun i hi => by rw [up_n (by omega)]; exact hc i hi, by rw [up_e]; omega, rfl, rfl, fun i hi => ?_, ?_, fun k hk j hj => ?_, fun i hi => ?_, ?_, ?_⟩⟩, fun rec => ?_⟩
        · rw [up_n (by omega)]
          exact D1 i hi
        · rw [up_e, e1_s]
          exact Dd
        · rw [up_n (by omega), up_n (by omega)]
          exact k3 k hk j hj
        · rw [smo_cg (c := up c d (c d + 1)) (c' := c) i (fun k hk => up_n (by omega))]
          exact LS i (by omega)
        · rw [stay, pr, ← ho]
          exact L4
        · rw [stay, pr]
          exact L5
        · rw [head2 rec, if_neg (lt' ▸ qb)]
    · -- a place met before
      rw [if_neg fr] at mt'
      refine ⟨mt n (up c d (c d + 1)) d, (hv τ F1, nI d), by rw [em]; exact mt_stay (by omega), ⟨F1, r1, off1, T1, M1, Or.inl ⟨up c d (c d + 1), d, hd, fun i hi => by rw [up_n (by omega)]; exact hc i hi, by rw [up_e]; omega, rfl, rfl, fun i hi => ?_, ?_, fun k hk j hj => ?_, fun i hi => ?_, ?_, ?_⟩⟩, fun rec => ?_⟩
      · rw [up_n (by omega)]
        exact C1 i hi
      · rw [up_e, e1_s]
        exact Cd
      · rw [up_n (by omega), up_n (by omega)]
        exact k3 k hk j hj
      · rw [smo_cg (c := up c d (c d + 1)) (c' := c) i (fun k hk => up_n (by omega))]
        exact KS i (by omega)
      · rw [stay, o_dup hd hcl fr]
        exact K4
      · rw [stay, o_dup hd hcl fr]
        exact K5
      · rw [head rec, if_neg nq, mt', b2_some, if_neg (by decide)]
theorem x_run8 {N : Nat} {σ : Hp} {f : Nat → Nat → Int32} {S : St} (g : Good S) (h : RepX N (hv σ f) S) {T : Nat → Nat} {n : Nat} (h1 : 1 ≤ n) (h8 : n ≤ 8) (hT : ∀ k, k < n → T k < 24 ∧ f (N + 212) k = nI (T k)) : ∃ F, F_X6_run_8 (hv σ f) (N + 227) (nI n) = some (hv (born σ (.inr (0, 9))) F) ∧ RepX N (hv σ F) S ∧ (∀ a j, a < N ∨ (N + 245 ≤ a ∧ a < hZ σ) → F a j = f a j) ∧ (∀ k, k < n → F (N + 212) k = nI (T k)) ∧ F (N + 227) 3 = e1 (ok S T 0 n (n ^ n)).1 ∧ ∀ i, i < n → F (N + 229) i = nI (dgb n n ((ok S T 0 n (n ^ n)).2 - 1) i) := by
  have s : SX N σ := h.1
  have hZN : N + 271 ≤ hZ σ := h.2.1
  have sτ : SX N (born σ (.inr (0, 9))) := s.mono (fun o ho => ⟨if_neg (by omega), fun _ => if_neg (by omega), fun _ => if_neg (by omega), fun _ => if_neg (by omega)⟩)
  have hz : aN 0 (hZ σ) (born σ (.inr (0, 9))) = some 9 := aN_of (if_pos rfl)
  have n0 : num n (fun _ => 0) (0 + 1) * n ^ (n - 1 - 0) = 0 := by
    show (n * 0 + 0) * _ = 0
    rw [Nat.mul_zero, Nat.zero_add, Nat.zero_mul]
  obtain ⟨F0, hF0⟩ : ∃ F0, F0 = u2 (bnI σ (u2 (u2 f (N + 227) 2 (nI n)) (N + 227) 3 (nI 268435456))) (N + 228) 0 (e1 0) := ⟨_, rfl⟩
  have b0 : ∀ a j, a ≠ N + 227 → a ≠ N + 228 → a ≠ hZ σ → F0 a j = f a j := fun a j q1 q2 q3 => by
    rw [hF0, u2_n (by omega), bn_n q3, u2_n (by omega), u2_n (by omega)]
  obtain ⟨st, r, ⟨F, rp, off, hT', es, k4, k5⟩, e⟩ := it_muF (body := fun rec st => B_X6_run_8_25 (N + 227) (hZ σ) rec st.1 st.2) (RI8 N (hZ σ) σ (born σ (.inr (0, 9))) f S T n) (RDn8 N (hZ σ) σ (born σ (.inr (0, 9))) f S T n) (ri_step8 g sτ rfl hZN hz h1 h8) (mt n (fun _ => 0) 0) (hv (born σ (.inr (0, 9))) F0, nI 0) ⟨F0, h.sz (fun a k ha q => b0 a k (q 227 (by omega)) (q 228 (by omega)) (by omega)), fun a j ha => b0 a j (by omega) (by omega) (by omega), fun k hk => ⟨(hT k hk).1, (b0 _ _ (by omega) (by omega) (by omega)).trans (hT k hk).2⟩, by rw [hF0, u2_n (by omega), bn_n (by omega), u2_n (by omega), u2_e], Or.inl ⟨fun _ => 0, 0, by omega, fun i hi => by omega, Nat.zero_le n, rfl, rfl, fun i hi => by omega, by rw [hF0, u2_e], fun k hk => absurd hk (Nat.not_lt_zero k), fun i hi => by
      have : i = 0 := by omega
      subst this
      rw [hF0, u2_n (by omega), bn_e]
      rfl, by rw [n0, hF0, u2_n (by omega), bn_n (by omega), u2_e]; rfl, fun z => absurd (by rw [n0]; rfl) z⟩⟩ (mt_0 _ _ (by omega))
  subst es
  have nz := ok_full S T 0 h1
  refine ⟨F, ?_, rp, off, fun k hk => (hT' k hk).2, ?_, k5 (fun z => nz (ok_z S T 0 n _ z))⟩
  · have L0 : F_X6_run_8 (hv σ f) (N + 227) (nI n) = it (fun rec st => B_X6_run_8_25 (N + 227) (hZ σ) rec st.1 st.2) FU (hv (born σ (.inr (0, 9))) F0, nI 0) := by
      unfold F_X6_run_8
      rw [gd_hv s.t227, pI_hv s.t227, b1_some, pI_hv s.t227, b1_some, born_hv, sτ.R227_0, b1_some]
      have w := sτ.W228 (f := bnI σ (u2 (u2 f (N + 227) 2 (nI n)) (N + 227) 3 268435456)) (i := 0) (v := e1 0) (by omega)
      have w' : sI 0 (N + 228) 0 (-1) (hv (born σ (.inr (0, 9))) (bnI σ (u2 (u2 f (N + 227) 2 (nI n)) (N + 227) 3 268435456))) = some (hv (born σ (.inr (0, 9))) F0) := by
        rw [hF0]
        exact w
      rw [w', b1_some]
      rfl
    rw [L0]
    refine e.trans ?_
    simp (decide := true) (disch := omega) only [B_X6_run_8_25, b1_some, b2_some, litI, neg1, nI_add, nI_mul, e1_p1, nI_e0, ib, ib1, ite_not, if_true, if_false, not_true_eq_false, not_false_eq_true, setI_hv, e1_lt, Nat.le_refl]
  · rw [k4]
    unfold lsx
    rw [if_neg nz, e1_of (by omega)]
theorem x_told8 {N : Nat} {σ : Hp} {f : Nat → Nat → Int32} {S : St} (g : Good S) (h : RepX N (hv σ f) S) {T : Nat → Nat} {n : Nat} {i : Int32} (h1 : 1 ≤ n) (h8 : n ≤ 8) (hi : -1 ≤ i) (hT : ∀ k, k < n → T k < 24 ∧ f (N + 212) k = nI (T k)) : ∃ F, F_X0_told_8 (hv σ f) N (N + 227) (nI n) i = some (ordr S T 0 n i, hv (born σ (.inr (0, 9))) F) ∧ RepX N (hv (born σ (.inr (0, 9))) F) S ∧ FrX N (hv σ f) (hv (born σ (.inr (0, 9))) F) := by
  have s : SX N σ := h.1
  have hZN : N + 271 ≤ hZ σ := h.2.1
  have sτ : SX N (born σ (.inr (0, 9))) := s.mono (fun o ho => ⟨if_neg (by omega), fun _ => if_neg (by omega), fun _ => if_neg (by omega), fun _ => if_neg (by omega)⟩)
  obtain ⟨F, r1, r2, r3, r4, r5, r6⟩ := x_run8 g h h1 h8 hT
  refine ⟨F, ?_, r2.bn _, fun a ha => ?_, by show hZ σ ≤ hZ σ + 1; omega⟩
  · unfold F_X0_told_8 ordr
    rw [gd_hv s.t0, r1, b1_some]
    rcases ord_in h8 hi with q | q | ⟨j, hj, rfl⟩
    · rw [if_pos q, if_pos q]
      simp (decide := true) (disch := omega) only [gI_hv sτ.t227, b1_some, b2_some, litI, neg1, nI_add, nI_mul, e1_p1, nI_e0, ib, ib1, ite_not, if_true, if_false, not_true_eq_false, not_false_eq_true, setI_hv, r5]
    · by_cases q' : i = -1
      · rw [if_pos q', if_pos q']
        simp (decide := true) (disch := omega) only [gI_hv sτ.t227, b1_some, b2_some, litI, neg1, nI_add, nI_mul, e1_p1, nI_e0, ib, ib1, ite_not, if_true, if_false, not_true_eq_false, not_false_eq_true, setI_hv, r5]
      · rw [if_neg q', if_neg q', if_pos q, if_pos q]
    · have n1 : ¬ nI j = -1 := by rw [nI_m1 (by omega)]; exact id
      have n2 : ¬ nI n ≤ nI j := by rw [le_lit (by omega) (by omega)]; omega
      rw [if_neg n1, if_neg n1, if_neg n2, if_neg n2, cl_I (by omega)]
      have e6 := r6 j hj
      have dl := dgb_lt (b := n) (n := n) (k := (ok S T 0 n (n ^ n)).2 - 1) (i := j) (by omega)
      have e4 := r4 _ dl
      generalize dgb n n ((ok S T 0 n (n ^ n)).2 - 1) j = y at e6 dl e4
      simp (decide := true) (disch := omega) only [sτ.R15, sτ.R227_1, sτ.A229, sτ.A212, b1_some, b2_some, litI, neg1, nI_add, nI_mul, e1_p1, nI_e0, ib, ib1, ite_not, if_true, if_false, not_true_eq_false, not_false_eq_true, setI_hv, e6, e4]
  · have za : a ≠ hZ σ := by have hh : hZ (hv σ f) = hZ σ := rfl; rw [hh] at ha; omega
    have b := born_same (f := f) (kd := .inr (0, 9)) za
    refine ⟨b.1, fun k => ?_, b.2.2.1, b.2.2.2⟩
    have hh : hZ (hv σ f) = hZ σ := rfl
    rw [hh] at ha
    exact r3 a k ha
theorem x_code (N : Nat) (x : Int64) (n i : Int32) : OkX N (fun σ => F_X0_code σ N x n i) (oOrd 2 6 0 x n i) := by
  intro σ S g h0
  have h : RepX N (hv σ σ.2.1) S := h0
  show ∃ σ', F_X0_code (hv σ σ.2.1) N x n i = _ ∧ RepX N σ' _ ∧ FrX N (hv σ σ.2.1) σ'
  generalize σ.2.1 = f at h
  have s : SX N (hv σ f) := h.1
  unfold F_X0_code
  rw [gd_at s.t0]
  rcases in_split n 2 6 (by omega) (by omega) with ⟨k, h1, h8, rfl⟩ | hk
  case inr =>
    have e : oOrd 2 6 0 x n i S = (-3, S) := if_neg hk
    have h0 : F_X0_layHand (hv σ f) N x n 2 6 i = some (-3, hv σ f) := x_hand0 (lo := 2) (hi := 6) s hk
    rw [e, h0, b2_some, if_neg (by decide)]
    exact ⟨_, rfl, h, FrX.rf⟩
  have e : oOrd 2 6 0 x (nI k) i S = (if thr k x then (if unq k (hdv x) ∧ -1 ≤ i then ordr S (hdv x) 0 k i else -3) else -2, S) := by
    unfold oOrd
    rw [cl_I (by omega), if_pos (inR_of h1 h8 (by omega)), if_neg (by decide : ¬ 0 = 1)]
  have hd : F_X0_layHand (hv σ f) N x (nI k) 2 6 i = some (if thr k x then (if unq k (hdv x) ∧ -1 ≤ i then nI 0 else -3) else -2, hv σ (fz f (N + 212) k (hdv x))) := x_hand (f := f) (σ := σ) (lo := 2) (hi := 6) s h1 h8 (by omega)
  have r1 : RepX N (hv σ (fz f (N + 212) k (hdv x))) S := h.sx (fun a j ha => fz_off (ha 212 (by omega)))
  rw [e, hd, b2_some]
  by_cases q1 : thr k x
  case neg =>
    rw [if_neg q1, if_neg (by decide), if_neg q1]
    exact ⟨_, rfl, r1, frx_hand k _⟩
  rw [if_pos q1, if_pos q1]
  by_cases q2 : unq k (hdv x) ∧ -1 ≤ i
  case neg =>
    rw [if_neg q2, if_neg (by decide), if_neg q2]
    exact ⟨_, rfl, r1, frx_hand k _⟩
  rw [if_pos q2, if_pos (show nI 0 = (0 : Int32) from rfl), if_pos q2]
  obtain ⟨F, t1, t2, t3⟩ := x_told8 g r1 (T := hdv x) (n := k) (i := i) (by omega) (by omega) q2.2 (fun j hj => ⟨by have := q1 j hj; omega, fz_rd hj⟩)
  refine ⟨_, ?_, t2, (frx_hand k (hdv x)).tr t3⟩
  have sσ : SX N σ := s
  rw [sσ.R18, b1_some, t1, b2_some]
