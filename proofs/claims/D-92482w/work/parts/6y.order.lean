set_option maxRecDepth 100000
/-! pure law 34: orders of things; the twin's search -/
def inc (S : St) (T : Nat → Nat) (b : Nat) (c : Nat → Nat) (i : Nat) : Nat := if b = 1 then (if i = 0 then 0 else lkn S (T (c (i - 1))) (T (c i))) else sumR (fun k => S.2 38 (10 * k + i) * lkn S (T (c k)) (T (c i))) 0 i
def smo (S : St) (T : Nat → Nat) (b : Nat) (c : Nat → Nat) : Nat → Nat
  | 0 => 0
  | i + 1 => smo S T b c i + inc S T b c i
theorem inc_cg {S : St} {T : Nat → Nat} {b : Nat} {c c' : Nat → Nat} {i : Nat} (h : ∀ k, k ≤ i → c k = c' k) : inc S T b c i = inc S T b c' i := by
  unfold inc
  by_cases q : b = 1
  · rw [if_pos q, if_pos q, h i (Nat.le_refl _), h (i - 1) (by omega)]
  · rw [if_neg q, if_neg q]
    refine sumR_cg 0 i (fun k hk => ?_)
    show S.2 38 (10 * (0 + k) + i) * lkn S (T (c (0 + k))) (T (c i)) = S.2 38 (10 * (0 + k) + i) * lkn S (T (c' (0 + k))) (T (c' i))
    rw [h i (Nat.le_refl _), h (0 + k) (by omega)]
theorem smo_cg {S : St} {T : Nat → Nat} {b : Nat} {c c' : Nat → Nat} : ∀ n, (∀ k, k < n → c k = c' k) → smo S T b c n = smo S T b c' n
  | 0, _ => rfl
  | n + 1, h => by
    show smo S T b c n + inc S T b c n = smo S T b c' n + inc S T b c' n
    rw [smo_cg n (fun k hk => h k (by omega)), inc_cg (fun k hk => h k (by omega))]
theorem sumR_le' {f : Nat → Nat} {m a : Nat} : ∀ n, (∀ k, k < n → f (a + k) ≤ m) → sumR f a n ≤ m * n
  | 0, _ => Nat.zero_le _
  | n + 1, h => by
    have h1 := sumR_le' (f := f) (m := m) (a := a) n (fun k hk => h k (by omega))
    have h2 := h n (by omega)
    show sumR f a n + f (a + n) ≤ m * (n + 1)
    rw [Nat.mul_add]
    omega
theorem Good.al {S : St} (g : Good S) {k : Nat} (hk : k < 100) : S.2 38 k ≤ 9 := g.2.2.2.2.2.2.2.2.2.2.2.2.2.2.2.2.1 k hk
theorem Good.as {S : St} (g : Good S) {a b : Nat} (ha : a < 10) (hb : b < 10) : S.2 38 (10 * a + b) = S.2 38 (10 * b + a) := g.2.2.2.2.2.2.2.2.2.2.2.2.2.2.2.2.2 a b ha hb
theorem inc_le {S : St} (g : Good S) (T : Nat → Nat) (b : Nat) (c : Nat → Nat) {i : Nat} (hi : i ≤ 8) : inc S T b c i ≤ 576 := by
  unfold inc
  by_cases q : b = 1
  · rw [if_pos q]
    have := lkn_le S (T (c (i - 1))) (T (c i))
    split <;> omega
  · rw [if_neg q]
    have h : sumR (fun k => S.2 38 (10 * k + i) * lkn S (T (c k)) (T (c i))) 0 i ≤ 72 * i := sumR_le' i (fun k hk => Nat.mul_le_mul (g.al (by omega)) (lkn_le S _ _))
    have h2 : 72 * i ≤ 72 * 8 := Nat.mul_le_mul_left 72 hi
    omega
theorem smo_le {S : St} (g : Good S) (T : Nat → Nat) (b : Nat) (c : Nat → Nat) : ∀ n, n ≤ 9 → smo S T b c n ≤ 576 * n
  | 0, _ => Nat.zero_le _
  | n + 1, h => by
    have h1 := smo_le g T b c n (by omega)
    have h2 := inc_le g T b c (i := n) (by omega)
    show smo S T b c n + inc S T b c n ≤ 576 * (n + 1)
    omega
theorem smo_mono (S : St) (T : Nat → Nat) (b : Nat) (c : Nat → Nat) (i : Nat) : ∀ t, smo S T b c i ≤ smo S T b c (i + t)
  | 0 => Nat.le_refl _
  | t + 1 => Nat.le_trans (smo_mono S T b c i t) (Nat.le_add_right _ _)
def svo (S : St) (T : Nat → Nat) (b n k : Nat) : Nat := if unq n (dgb n n k) then smo S T b (dgb n n k) n + 1 else 0
def bto (o v : Nat) : Bool := decide (v ≠ 0 ∧ (o = 0 ∨ v < o))
theorem bto_t {o v : Nat} : (bto o v = true) = (v ≠ 0 ∧ (o = 0 ∨ v < o)) := by
  unfold bto
  exact propext decide_eq_true_iff
def ok (S : St) (T : Nat → Nat) (b n : Nat) : Nat → Nat × Nat := fo bto (svo S T b n)
theorem ok_b {S : St} (g : Good S) (T : Nat → Nat) (b : Nat) {n : Nat} (hn : n ≤ 8) (P : Nat) : (ok S T b n P).1 ≤ 6000 := fo_b (fun k => by
  have := smo_le g T b (dgb n n k) n (by omega)
  unfold svo
  split <;> omega) P
theorem num_lt {b : Nat} {c : Nat → Nat} : ∀ d, (∀ i, i < d → c i < b) → num b c d < b ^ d
  | 0, _ => by
    show 0 < b ^ 0
    rw [Nat.pow_zero]
    omega
  | d + 1, h => by
    have h1 := num_lt (b := b) (c := c) d (fun i hi => h i (by omega))
    have h2 := h d (by omega)
    show b * num b c d + c d < b ^ (d + 1)
    rw [Nat.pow_succ, Nat.mul_comm (b ^ d) b]
    have h3 : b * (num b c d + 1) ≤ b * b ^ d := Nat.mul_le_mul_left b h1
    rw [Nat.mul_add] at h3
    omega
theorem ok_nz {S : St} {T : Nat → Nat} {b n P : Nat} : ∀ t, (ok S T b n P).1 ≠ 0 → (ok S T b n (P + t)).1 ≠ 0
  | 0, h => h
  | t + 1, h => by
    have ih := ok_nz (S := S) (T := T) (b := b) (n := n) (P := P) t h
    show (if bto (ok S T b n (P + t)).1 (svo S T b n (P + t)) = true then (svo S T b n (P + t), P + t + 1) else ok S T b n (P + t)).1 ≠ 0
    by_cases q : bto (ok S T b n (P + t)).1 (svo S T b n (P + t)) = true
    · rw [if_pos q]
      rw [bto_t] at q
      exact q.1
    · rw [if_neg q]
      exact ih
theorem ok_z (S : St) (T : Nat → Nat) (b n : Nat) : ∀ P, (ok S T b n P).2 = 0 → (ok S T b n P).1 = 0
  | 0, _ => rfl
  | P + 1, h => by
    have h' : (if bto (ok S T b n P).1 (svo S T b n P) = true then (svo S T b n P, P + 1) else ok S T b n P).2 = 0 := h
    show (if bto (ok S T b n P).1 (svo S T b n P) = true then (svo S T b n P, P + 1) else ok S T b n P).1 = 0
    by_cases q : bto (ok S T b n P).1 (svo S T b n P) = true
    · rw [if_pos q] at h'
      cases h'
    · rw [if_neg q] at h' ⊢
      exact ok_z S T b n P h'
theorem ok_full (S : St) (T : Nat → Nat) (b : Nat) {n : Nat} (h1 : 1 ≤ n) : (ok S T b n (n ^ n)).1 ≠ 0 := by
  have hl := num_lt (b := n) (c := fun i => i) n (fun i hi => hi)
  have dg : ∀ i, i < n → dgb n n (num n (fun i => i) n) i = i := fun i hi => by
    have := dgb_num (b := n) (n := n) (d := n - 1) (r := 0) (c := fun i => i) (fun i hi => by show i < n; omega) (by omega) (Nat.pow_pos (by omega)) (i := i) (by omega)
    rw [show n - 1 + 1 = n by omega, show n - 1 - (n - 1) = 0 by omega, Nat.pow_zero, Nat.mul_one, Nat.add_zero] at this
    exact this
  have sv : svo S T b n (num n (fun i => i) n) ≠ 0 := by
    unfold svo
    rw [if_pos (fun k hk j hj => by rw [dg k hk, dg j (by omega)]; omega)]
    omega
  have step : (ok S T b n (num n (fun i => i) n + 1)).1 ≠ 0 := by
    show (if bto (ok S T b n (num n (fun i => i) n)).1 (svo S T b n (num n (fun i => i) n)) = true then (svo S T b n (num n (fun i => i) n), num n (fun i => i) n + 1) else ok S T b n (num n (fun i => i) n)).1 ≠ 0
    by_cases q : bto (ok S T b n (num n (fun i => i) n)).1 (svo S T b n (num n (fun i => i) n)) = true
    · rw [if_pos q]
      exact sv
    · rw [if_neg q]
      intro z
      exact q (by rw [bto_t]; exact ⟨sv, Or.inl z⟩)
  have := ok_nz (n ^ n - (num n (fun i => i) n + 1)) step
  rw [show num n (fun i => i) n + 1 + (n ^ n - (num n (fun i => i) n + 1)) = n ^ n by omega] at this
  exact this
section OS
variable {S : St} {T : Nat → Nat} {b n d : Nat} {c : Nat → Nat}
theorem o_dig (hd : d < n) (hc : ∀ i, i ≤ d → c i < n) {k : Nat} (h1 : num n c (d + 1) * n ^ (n - 1 - d) ≤ k) (h2 : k < num n c (d + 1) * n ^ (n - 1 - d) + n ^ (n - 1 - d)) {i : Nat} (hi : i ≤ d) : dgb n n k i = c i := by
  have := dgb_num (b := n) (n := n) (d := d) (r := k - num n c (d + 1) * n ^ (n - 1 - d)) (c := c) hc hd (by omega) hi
  rw [show num n c (d + 1) * n ^ (n - 1 - d) + (k - num n c (d + 1) * n ^ (n - 1 - d)) = k by omega] at this
  exact this
/-- what begins with a place met before -/
theorem o_dup (hd : d < n) (hc : ∀ i, i ≤ d → c i < n) (h : ¬ ∀ k, k < d → c k ≠ c d) : ok S T b n (num n c (d + 1) * n ^ (n - 1 - d) + n ^ (n - 1 - d)) = ok S T b n (num n c (d + 1) * n ^ (n - 1 - d)) := fo_skip _ (fun k h1 h2 z => by
  rw [bto_t] at z
  refine z.1 (if_neg (fun u => h (fun j hj e => u d hd j hj ?_)))
  rw [o_dig hd hc h1 h2 (Nat.le_refl _), o_dig hd hc h1 h2 (by omega), e])
/-- what comes to too much already -/
theorem o_prune (hd : d < n) (hc : ∀ i, i ≤ d → c i < n) (h0 : (ok S T b n (num n c (d + 1) * n ^ (n - 1 - d))).1 ≠ 0) (h : (ok S T b n (num n c (d + 1) * n ^ (n - 1 - d))).1 ≤ smo S T b c (d + 1) + 1) : ok S T b n (num n c (d + 1) * n ^ (n - 1 - d) + n ^ (n - 1 - d)) = ok S T b n (num n c (d + 1) * n ^ (n - 1 - d)) := fo_skip _ (fun k h1 h2 z => by
  rw [bto_t] at z
  have z2 := z.2.resolve_left h0
  have e : smo S T b c (d + 1) = smo S T b (dgb n n k) (d + 1) := smo_cg (d + 1) (fun i hi => (o_dig hd hc h1 h2 (by omega)).symm)
  have m := smo_mono S T b (dgb n n k) (d + 1) (n - (d + 1))
  rw [show d + 1 + (n - (d + 1)) = n by omega] at m
  have z1 := z.1
  unfold svo at z1 z2
  by_cases u : unq n (dgb n n k)
  · rw [if_pos u] at z2
    have z3 : smo S T b (dgb n n k) n + 1 < (ok S T b n (num n c (d + 1) * n ^ (n - 1 - d))).1 := z2
    omega
  · rw [if_neg u] at z1
    exact z1 rfl)
theorem o_leaf (hd : d + 1 = n) (hc : ∀ i, i ≤ d → c i < n) (hu : unq n c) : svo S T b n (num n c (d + 1)) = smo S T b c n + 1 := by
  have pz : n - 1 - d = 0 := by omega
  have dg : ∀ i, i < n → dgb n n (num n c (d + 1)) i = c i := fun i hi => o_dig (d := d) (by omega) hc (by rw [pz, Nat.pow_zero, Nat.mul_one]; exact Nat.le_refl _) (by rw [pz, Nat.pow_zero, Nat.mul_one]; omega) (by omega)
  unfold svo
  rw [if_pos (fun k hk j hj => by rw [dg k hk, dg j (by omega)]; exact hu k hk j hj), smo_cg n dg]
end OS
theorem ok_s (S : St) (T : Nat → Nat) (b n P : Nat) : ok S T b n (P + 1) = if svo S T b n P ≠ 0 ∧ ((ok S T b n P).1 = 0 ∨ svo S T b n P < (ok S T b n P).1) then (svo S T b n P, P + 1) else ok S T b n P := by
  show (if bto (ok S T b n P).1 (svo S T b n P) = true then _ else _) = _
  by_cases q : svo S T b n P ≠ 0 ∧ ((ok S T b n P).1 = 0 ∨ svo S T b n P < (ok S T b n P).1)
  · rw [if_pos (bto_t ▸ q), if_pos q]
  · rw [if_neg (fun z => q (bto_t ▸ z)), if_neg q]
    rfl
/-! the twin's sums -/
theorem m_speech {M : Nat} {σ : Hp} {F : Nat → Nat → Int32} {S : St} (g : Good S) (h : RepM M (hv σ F) S) {n : Nat} {T c : Nat → Nat} (h1 : 1 ≤ n) (h8 : n ≤ 8) (hT : ∀ k, k < n → T k < 24 ∧ F (M + 19) k = nI (T k)) (hc : ∀ k, k < n → c k < n ∧ F (M + 20) k = nI (c k)) : F_X10_speechOf (hv σ F) M (nI n) = some (nI (smo S T 1 c n), hv σ F) := by
  have s : SM M σ := h.1
  unfold F_X10_speechOf L_X10_speechOf_4
  rw [gd_hv s.1]
  obtain ⟨m, hm⟩ := it_FU (body := fun rec st => B_X10_speechOf_4 M (nI n) rec st.1 st.2.1 st.2.2) (fun k => (hv σ F, nI (smo S T 1 c k), nI k)) 1 n (by omega) (by omega) (fun k h1 hk rec => by
    have c1 := hc k hk
    have c2 := hc (k - 1) (by omega)
    have t1 := hT (c k) c1.1
    have t2 := hT (c (k - 1)) c2.1
    have lk := m_lk g h (a := T (c (k - 1))) (b := T (c k)) t2.1 t1.1
    have e : inc S T 1 c k = lkn S (T (c (k - 1))) (T (c k)) := by
      unfold inc
      rw [if_pos rfl, if_neg (by omega)]
    show B_X10_speechOf_4 M (nI n) rec (hv σ F) (nI (smo S T 1 c k)) (nI k) = rec (hv σ F, nI (smo S T 1 c k + inc S T 1 c k), nI (k + 1))
    rw [e]
    simp (decide := true) (disch := omega) only [B_X10_speechOf_4, gd_hv s.1, gI_hv s.1, pI_hv s.1, s.R31, s.A31, s.W31, s.R32, s.A32, s.W32, b1_some, b2_some, litI, neg1, nI_add, nI_mul, e1_p1, nI_e0, ib, ib1, ite_not, if_true, if_false, not_true_eq_false, not_false_eq_true, setI_hv, le_lit, nI_sub, show ¬ n ≤ k by omega, c1.2, c2.2, t1.2, t2.2, lk])
  have e0 : smo S T 1 c 1 = 0 := by
    show 0 + inc S T 1 c 0 = 0
    unfold inc
    rw [if_pos rfl, if_pos rfl]
  rw [e0] at hm
  refine Eq.trans hm ?_
  simp (decide := true) (disch := omega) only [B_X10_speechOf_4, b1_some, b2_some, litI, neg1, nI_add, nI_mul, e1_p1, nI_e0, ib, ib1, ite_not, if_true, if_false, not_true_eq_false, not_false_eq_true, setI_hv, le_lit, Nat.le_refl]
theorem m_harm {M : Nat} {σ : Hp} {F : Nat → Nat → Int32} {S : St} (g : Good S) (h : RepM M (hv σ F) S) {n : Nat} {T c : Nat → Nat} (h8 : n ≤ 8) (hT : ∀ k, k < n → T k < 24 ∧ F (M + 19) k = nI (T k)) (hc : ∀ k, k < n → c k < n ∧ F (M + 20) k = nI (c k)) : F_X10_harmOf (hv σ F) M (nI n) = some (nI (smo S T 0 c n), hv σ F) := by
  have s : SM M σ := h.1
  unfold F_X10_harmOf L_X10_harmOf_4
  rw [gd_hv s.1]
  obtain ⟨m, hm⟩ := it_FU (body := fun rec st => B_X10_harmOf_4 M (nI n) rec st.1 st.2.1 st.2.2) (fun k => (hv σ F, nI (smo S T 0 c k), nI k)) 0 n (by omega) (by omega) (fun k _ hk rec => by
    have c1 := hc k hk
    have t1 := hT (c k) c1.1
    have e : inc S T 0 c k = sumR (fun k' => S.2 38 (10 * k' + k) * lkn S (T (c k')) (T (c k))) 0 k := by
      unfold inc
      rw [if_neg (by omega)]
    obtain ⟨m', hm'⟩ := it_FU (body := fun rec' st => B_X10_harmOf_12 rec M (nI n) (nI k) rec' st.1 st.2.1 st.2.2) (fun j => (hv σ F, nI (smo S T 0 c k + sumR (fun k' => S.2 38 (10 * k' + k) * lkn S (T (c k')) (T (c k))) 0 j), nI j)) 0 k (by omega) (by omega) (fun j _ hj rec' => by
      have c2 := hc j (by omega)
      have t2 := hT (c j) c2.1
      have lk := m_lk g h (a := T (c k)) (b := T (c j)) t1.1 t2.1
      have e2 : S.2 38 (10 * j + k) * lkn S (T (c j)) (T (c k)) = lkn S (T (c k)) (T (c j)) * S.2 38 (10 * k + j) := by
        rw [g.as (by omega) (by omega), lkn_comm, Nat.mul_comm]
      show B_X10_harmOf_12 rec M (nI n) (nI k) rec' (hv σ F) (nI (smo S T 0 c k + sumR (fun k' => S.2 38 (10 * k' + k) * lkn S (T (c k')) (T (c k))) 0 j)) (nI j) = rec' (hv σ F, nI (smo S T 0 c k + (sumR (fun k' => S.2 38 (10 * k' + k) * lkn S (T (c k')) (T (c k))) 0 j + S.2 38 (10 * (0 + j) + k) * lkn S (T (c (0 + j))) (T (c k)))), nI (j + 1))
      rw [Nat.zero_add, e2, ← Nat.add_assoc]
      generalize smo S T 0 c k + sumR (fun k' => S.2 38 (10 * k' + k) * lkn S (T (c k')) (T (c k))) 0 j = y
      simp (decide := true) (disch := omega) only [B_X10_harmOf_12, gd_hv s.1, gI_hv s.1, pI_hv s.1, s.R31, s.A31, s.W31, s.R32, s.A32, s.W32, s.R38, s.A38, s.W38, b1_some, b2_some, litI, neg1, nI_add, nI_mul, e1_p1, nI_e0, ib, ib1, ite_not, if_true, if_false, not_true_eq_false, not_false_eq_true, setI_hv, le_lit, show ¬ k ≤ j by omega, c1.2, c2.2, t1.2, t2.2, lk, h.a38])
    have lp : L_X10_harmOf_12 rec M (nI n) (nI k) FU (hv σ F, nI (smo S T 0 c k), nI 0) = rec (hv σ F, nI (smo S T 0 c k + inc S T 0 c k), nI (k + 1)) := by
      refine Eq.trans hm' ?_
      rw [e]
      simp (decide := true) (disch := omega) only [B_X10_harmOf_12, b1_some, b2_some, litI, neg1, nI_add, nI_mul, e1_p1, nI_e0, ib, ib1, ite_not, if_true, if_false, not_true_eq_false, not_false_eq_true, setI_hv, le_lit, Nat.le_refl]
    show B_X10_harmOf_4 M (nI n) rec (hv σ F) (nI (smo S T 0 c k)) (nI k) = rec (hv σ F, nI (smo S T 0 c k + inc S T 0 c k), nI (k + 1))
    rw [← lp]
    simp (decide := true) (disch := omega) only [B_X10_harmOf_4, b1_some, b2_some, litI, neg1, nI_add, nI_mul, e1_p1, nI_e0, ib, ib1, ite_not, if_true, if_false, not_true_eq_false, not_false_eq_true, setI_hv, le_lit, show ¬ n ≤ k by omega])
  refine Eq.trans hm ?_
  simp (decide := true) (disch := omega) only [B_X10_harmOf_4, b1_some, b2_some, litI, neg1, nI_add, nI_mul, e1_p1, nI_e0, ib, ib1, ite_not, if_true, if_false, not_true_eq_false, not_false_eq_true, setI_hv, le_lit, Nat.le_refl]
