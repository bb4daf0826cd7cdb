set_option maxRecDepth 100000
/-! pure law 9: how far rooms are -/
def rch (J : Nat → Nat → Prop) (a : Nat) : Nat → Nat → Prop
  | 0, r => r = a
  | n + 1, r => rch J a n r ∨ ∃ q, q < 8 ∧ rch J a n q ∧ J q r
theorem rch_up {J : Nat → Nat → Prop} {a n r : Nat} (h : rch J a n r) : ∀ k, rch J a (n + k) r
  | 0 => h
  | k + 1 => Or.inl (rch_up h k)
theorem rch_mono {J : Nat → Nat → Prop} {a n m r : Nat} (h : rch J a n r) (hm : n ≤ m) : rch J a m r := by
  have := rch_up h (m - n)
  rwa [Nat.add_sub_cancel' hm] at this
/-- d: none is 0, n doors is n + 1 -/
def IsD (J : Nat → Nat → Prop) (a b d : Nat) : Prop := (d = 0 ∧ ∀ n, n < 8 → ¬ rch J a n b) ∨ ∃ n, n < 8 ∧ d = n + 1 ∧ rch J a n b ∧ ∀ m, m < n → ¬ rch J a m b
theorem IsD.uniq {J : Nat → Nat → Prop} {a b d d' : Nat} (h : IsD J a b d) (h' : IsD J a b d') : d = d' := by
  rcases h with ⟨h1, h2⟩ | ⟨n, h1, h2, h3, h4⟩ <;> rcases h' with ⟨g1, g2⟩ | ⟨m, g1, g2, g3, g4⟩
  · omega
  · exact absurd g3 (h2 m g1)
  · exact absurd h3 (g2 n h1)
  · by_cases q : n < m
    · exact absurd h3 (g4 n q)
    · by_cases q2 : m < n
      · exact absurd g3 (h4 m q2)
      · omega
theorem IsD.ex (J : Nat → Nat → Prop) (a b : Nat) : ∃ d, IsD J a b d := by
  have key : ∀ k, k ≤ 8 → (∃ n, n < k ∧ rch J a n b ∧ ∀ m, m < n → ¬ rch J a m b) ∨ ∀ n, n < k → ¬ rch J a n b := by
    intro k
    induction k with
    | zero => exact fun _ => Or.inr (fun n hn => absurd hn (Nat.not_lt_zero n))
    | succ k ih =>
      intro hk
      rcases ih (by omega) with ⟨n, h1, h2⟩ | h
      · exact Or.inl ⟨n, by omega, h2⟩
      · rcases Classical.em (rch J a k b) with q | q
        · exact Or.inl ⟨k, by omega, q, h⟩
        · refine Or.inr (fun n hn => ?_)
          by_cases e : n = k
          · subst e
            exact q
          · exact h n (by omega)
  rcases key 8 (Nat.le_refl _) with ⟨n, h1, h2, h3⟩ | h
  · exact ⟨n + 1, Or.inr ⟨n, h1, rfl, h2, h3⟩⟩
  · exact ⟨0, Or.inl ⟨rfl, h⟩⟩
noncomputable def dst (S : St) (a b : Nat) : Nat := Classical.choose (IsD.ex (jn S) a b)
theorem dst_is (S : St) (a b : Nat) : IsD (jn S) a b (dst S a b) := Classical.choose_spec (IsD.ex (jn S) a b)
theorem dst_eq {S : St} {a b d : Nat} (h : IsD (jn S) a b d) : dst S a b = d := (dst_is S a b).uniq h
theorem dst_le (S : St) (a b : Nat) : dst S a b ≤ 8 := by
  rcases dst_is S a b with ⟨h, -⟩ | ⟨n, h1, h2, -⟩ <;> omega
/-! rooms are eight: what is reached at all is reached after seven doors -/
theorem sum_lt {f g : Nat → Nat} (h : ∀ r, f r ≤ g r) : ∀ n, (∃ r, r < n ∧ f r < g r) → sumR f 0 n + 1 ≤ sumR g 0 n
  | 0, ⟨r, hr, _⟩ => absurd hr (Nat.not_lt_zero r)
  | n + 1, ⟨r, hr, q⟩ => by
    have hle : ∀ n, sumR f 0 n ≤ sumR g 0 n := fun n => by
      induction n with
      | zero => exact Nat.le_refl _
      | succ n ih =>
        have := h (0 + n)
        show sumR f 0 n + f (0 + n) ≤ sumR g 0 n + g (0 + n)
        omega
    have h1 := hle n
    have h2 := h n
    have e1 : sumR f 0 (n + 1) = sumR f 0 n + f n := by show sumR f 0 n + f (0 + n) = _; rw [Nat.zero_add]
    have e2 : sumR g 0 (n + 1) = sumR g 0 n + g n := by show sumR g 0 n + g (0 + n) = _; rw [Nat.zero_add]
    rw [e1, e2]
    by_cases e : r = n
    · subst e
      omega
    · have := sum_lt h n ⟨r, by omega, q⟩
      omega
theorem sum_full {f : Nat → Nat} (h : ∀ r, f r ≤ 1) : ∀ n, n ≤ sumR f 0 n → ∀ r, r < n → f r = 1
  | 0, _, r, hr => absurd hr (Nat.not_lt_zero r)
  | n + 1, q, r, hr => by
    have e1 : sumR f 0 (n + 1) = sumR f 0 n + f n := by show sumR f 0 n + f (0 + n) = _; rw [Nat.zero_add]
    have h1 := sumR_le h 0 n
    have h2 := h n
    by_cases e : r = n
    · subst e
      omega
    · exact sum_full h n (by omega) r (by omega)
noncomputable def ind (P : Prop) : Nat := @ite Nat P (Classical.propDecidable P) 1 0
theorem ind_1 {P : Prop} (h : P) : ind P = 1 := if_pos h
theorem ind_0 {P : Prop} (h : ¬ P) : ind P = 0 := if_neg h
theorem ind_le (P : Prop) : ind P ≤ 1 := by
  rcases Classical.em P with h | h
  · rw [ind_1 h]; omega
  · rw [ind_0 h]; omega
theorem rch_st {J : Nat → Nat → Prop} {a m : Nat} (h : ∀ r, r < 8 → rch J a (m + 1) r → rch J a m r) : ∀ k r, r < 8 → rch J a (m + k) r → rch J a m r
  | 0, _, _, q => q
  | k + 1, r, hr, q => by
    rcases q with q | ⟨z, hz, q1, q2⟩
    · exact rch_st h k r hr q
    · exact h r hr (Or.inr ⟨z, hz, rch_st h k z hz q1, q2⟩)
theorem rch_7 {J : Nat → Nat → Prop} {a b d : Nat} (ha : a < 8) (hb : b < 8) (h : rch J a d b) : rch J a 7 b := by
  have key : ∀ n, (∃ m, m < n ∧ ∀ r, r < 8 → rch J a (m + 1) r → rch J a m r) ∨ n + 1 ≤ sumR (fun r => ind (r < 8 ∧ rch J a n r)) 0 8 := by
    intro n
    induction n with
    | zero =>
      right
      have h0 : sumR (fun _ => 0) 0 8 + 1 ≤ sumR (fun r => ind (r < 8 ∧ rch J a 0 r)) 0 8 := sum_lt (fun r => Nat.zero_le _) 8 ⟨a, ha, by rw [ind_1 ⟨ha, rfl⟩]; omega⟩
      omega
    | succ n ih =>
      rcases ih with ⟨m, h1, h2⟩ | ih
      · exact Or.inl ⟨m, by omega, h2⟩
      · rcases Classical.em (∀ r, r < 8 → rch J a (n + 1) r → rch J a n r) with q | q
        · exact Or.inl ⟨n, by omega, q⟩
        · right
          have ex : ∃ r, r < 8 ∧ rch J a (n + 1) r ∧ ¬ rch J a n r := by
            apply Classical.byContradiction
            intro z
            apply q
            intro r hr h1
            apply Classical.byContradiction
            intro h2
            exact z ⟨r, hr, h1, h2⟩
          obtain ⟨r, hr, h1, h2⟩ := ex
          have h0 : sumR (fun r => ind (r < 8 ∧ rch J a n r)) 0 8 + 1 ≤ sumR (fun r => ind (r < 8 ∧ rch J a (n + 1) r)) 0 8 := by
            refine sum_lt (fun r => ?_) 8 ⟨r, hr, by rw [ind_0 (fun z => h2 z.2), ind_1 ⟨hr, h1⟩]; omega⟩
            rcases Classical.em (r < 8 ∧ rch J a n r) with z | z
            · rw [ind_1 z, ind_1 ⟨z.1, Or.inl z.2⟩]
              exact Nat.le_refl _
            · rw [ind_0 z]
              exact Nat.zero_le _
          omega
  rcases key 7 with ⟨m, h1, h2⟩ | q
  · have : rch J a m b := rch_st h2 d b hb (rch_mono h (by omega))
    exact rch_mono this (by omega)
  · have := sum_full (fun r => ind_le _) 8 (by omega) b hb
    rcases Classical.em (b < 8 ∧ rch J a 7 b) with z | z
    · exact z.2
    · rw [ind_0 z] at this
      omega
/-! the twin's way: rounds over all doors -/
def up (d : Nat → Nat) (x v : Nat) : Nat → Nat := fun r => if r = x then v else d r
def rlx (x y : Nat) (d : Nat → Nat) : Nat → Nat :=
  up (up d x (if d y + 1 < d x then d y + 1 else d x)) y (if up d x (if d y + 1 < d x then d y + 1 else d x) x + 1 < up d x (if d y + 1 < d x then d y + 1 else d x) y then up d x (if d y + 1 < d x then d y + 1 else d x) x + 1 else up d x (if d y + 1 < d x then d y + 1 else d x) y)
theorem rlx_at {x y : Nat} (hxy : x ≠ y) (d : Nat → Nat) : rlx x y d x = min (d x) (d y + 1) ∧ rlx x y d y = min (d y) (min (d x) (d y + 1) + 1) ∧ ∀ r, r ≠ x → r ≠ y → rlx x y d r = d r := by
  unfold rlx up
  simp only [if_true, if_neg hxy, if_neg (Ne.symm hxy)]
  refine ⟨?_, ?_, fun r h1 h2 => ?_⟩
  · split <;> omega
  · repeat' split
    all_goals omega
  · rw [if_neg h2, if_neg h1]
def pss (S : St) (d : Nat → Nat) : Nat → (Nat → Nat)
  | 0 => d
  | k + 1 => rlx (S.2 2 k) (S.2 3 k) (pss S d k)
def tn (S : St) (a : Nat) : Nat → (Nat → Nat)
  | 0 => fun r => if r = a then 0 else 100
  | n + 1 => pss S (tn S a n) (S.1 1)
theorem pss_le {S : St} (g : Good S) (d : Nat → Nat) : ∀ k, k ≤ S.1 1 → ∀ r, pss S d k r ≤ d r
  | 0, _, r => Nat.le_refl _
  | k + 1, hk, r => by
    have h := rlx_at (g.dr (k := k) (by omega)).2.2 (pss S d k)
    have ih := pss_le g d k (by omega)
    show rlx (S.2 2 k) (S.2 3 k) (pss S d k) r ≤ d r
    have i1 := ih r
    by_cases q : r = S.2 2 k
    · rw [q] at i1 ⊢
      rw [h.1]
      omega
    · by_cases q2 : r = S.2 3 k
      · rw [q2] at i1 ⊢
        rw [h.2.1]
        omega
      · rw [h.2.2 r q q2]
        exact i1
theorem pss_snd {S : St} (g : Good S) {a : Nat} {d : Nat → Nat} (hd : ∀ r, d r ≤ 100 ∧ (d r < 100 → rch (jn S) a (d r) r)) : ∀ k, k ≤ S.1 1 → ∀ r, pss S d k r ≤ 100 ∧ (pss S d k r < 100 → rch (jn S) a (pss S d k r) r)
  | 0, _, r => hd r
  | k + 1, hk, r => by
    have hg := g.dr (k := k) (by omega)
    have h := rlx_at hg.2.2 (pss S d k)
    have ih := pss_snd g hd k (by omega)
    have j1 : jn S (S.2 2 k) (S.2 3 k) := ⟨k, by omega, Or.inl ⟨rfl, rfl⟩⟩
    have j2 : jn S (S.2 3 k) (S.2 2 k) := ⟨k, by omega, Or.inr ⟨rfl, rfl⟩⟩
    show rlx (S.2 2 k) (S.2 3 k) (pss S d k) r ≤ 100 ∧ (rlx (S.2 2 k) (S.2 3 k) (pss S d k) r < 100 → rch (jn S) a (rlx (S.2 2 k) (S.2 3 k) (pss S d k) r) r)
    have ix := ih (S.2 2 k)
    have iy := ih (S.2 3 k)
    have sx : rlx (S.2 2 k) (S.2 3 k) (pss S d k) (S.2 2 k) ≤ 100 ∧ (rlx (S.2 2 k) (S.2 3 k) (pss S d k) (S.2 2 k) < 100 → rch (jn S) a (rlx (S.2 2 k) (S.2 3 k) (pss S d k) (S.2 2 k)) (S.2 2 k)) := by
      rw [h.1]
      refine ⟨by omega, fun q => ?_⟩
      by_cases z : pss S d k (S.2 3 k) + 1 < pss S d k (S.2 2 k)
      · have e : min (pss S d k (S.2 2 k)) (pss S d k (S.2 3 k) + 1) = pss S d k (S.2 3 k) + 1 := by omega
        rw [e]
        exact Or.inr ⟨_, hg.2.1, iy.2 (by omega), j2⟩
      · have e : min (pss S d k (S.2 2 k)) (pss S d k (S.2 3 k) + 1) = pss S d k (S.2 2 k) := by omega
        rw [e]
        exact ix.2 (by omega)
    by_cases q : r = S.2 2 k
    · rw [q]
      exact sx
    · by_cases q2 : r = S.2 3 k
      · rw [q2, h.2.1]
        rw [h.1] at sx
        refine ⟨by omega, fun q => ?_⟩
        by_cases z : min (pss S d k (S.2 2 k)) (pss S d k (S.2 3 k) + 1) + 1 < pss S d k (S.2 3 k)
        · have e : min (pss S d k (S.2 3 k)) (min (pss S d k (S.2 2 k)) (pss S d k (S.2 3 k) + 1) + 1) = min (pss S d k (S.2 2 k)) (pss S d k (S.2 3 k) + 1) + 1 := by omega
          rw [e]
          exact Or.inr ⟨_, hg.1, sx.2 (by omega), j1⟩
        · have e : min (pss S d k (S.2 3 k)) (min (pss S d k (S.2 2 k)) (pss S d k (S.2 3 k) + 1) + 1) = pss S d k (S.2 3 k) := by omega
          rw [e]
          exact iy.2 (by omega)
      · rw [h.2.2 r q q2]
        exact ih r
theorem tn_snd {S : St} (g : Good S) (a : Nat) : ∀ n r, tn S a n r ≤ 100 ∧ (tn S a n r < 100 → rch (jn S) a (tn S a n r) r)
  | 0, r => by
    show (if r = a then 0 else 100) ≤ 100 ∧ ((if r = a then 0 else 100) < 100 → rch (jn S) a (if r = a then 0 else 100) r)
    by_cases q : r = a
    · rw [if_pos q]
      exact ⟨by omega, fun _ => q⟩
    · rw [if_neg q]
      exact ⟨by omega, fun z => by omega⟩
  | n + 1, r => pss_snd g (tn_snd g a n) (S.1 1) (Nat.le_refl _) r
theorem pss_dn {S : St} (g : Good S) (d : Nat → Nat) {k0 : Nat} : ∀ k, k0 < k → k ≤ S.1 1 → pss S d k (S.2 3 k0) ≤ d (S.2 2 k0) + 1 ∧ pss S d k (S.2 2 k0) ≤ d (S.2 3 k0) + 1
  | 0, h, _ => absurd h (Nat.not_lt_zero k0)
  | k + 1, hk, hl => by
    have hg := g.dr (k := k) (by omega)
    have h := rlx_at hg.2.2 (pss S d k)
    have p := pss_le g d k (by omega)
    by_cases e : k0 = k
    · subst e
      show rlx _ _ (pss S d k0) _ ≤ _ ∧ rlx _ _ (pss S d k0) _ ≤ _
      rw [h.1, h.2.1]
      have p1 := p (S.2 2 k0)
      have p2 := p (S.2 3 k0)
      omega
    · have ih := pss_dn g d (k0 := k0) k (by omega) (by omega)
      have mono : ∀ r, rlx (S.2 2 k) (S.2 3 k) (pss S d k) r ≤ pss S d k r := fun r => by
        by_cases q : r = S.2 2 k
        · rw [q, h.1]
          omega
        · by_cases q2 : r = S.2 3 k
          · rw [q2, h.2.1]
            omega
          · rw [h.2.2 r q q2]
            exact Nat.le_refl _
      exact ⟨Nat.le_trans (mono _) ih.1, Nat.le_trans (mono _) ih.2⟩
theorem tn_cmp {S : St} (g : Good S) (a : Nat) : ∀ n m r, m ≤ n → rch (jn S) a m r → tn S a n r ≤ m
  | 0, m, r, hm, h => by
    have : m = 0 := by omega
    subst this
    have h : r = a := h
    show (if r = a then 0 else 100) ≤ 0
    rw [if_pos h]
    exact Nat.le_refl _
  | n + 1, m, r, hm, h => by
    have p := pss_le g (tn S a n) (S.1 1) (Nat.le_refl _)
    show pss S (tn S a n) (S.1 1) r ≤ m
    cases m with
    | zero => exact Nat.le_trans (p r) (tn_cmp g a n 0 r (by omega) h)
    | succ m =>
      rcases h with h | ⟨q, hq, h1, k, hk, z | z⟩
      · have := tn_cmp g a n m r (by omega) h
        exact Nat.le_trans (p r) (by omega)
      · have i := tn_cmp g a n m q (by omega) h1
        have := (pss_dn g (tn S a n) (S.1 1) hk (Nat.le_refl _)).1
        rw [z.1, z.2] at this
        omega
      · have i := tn_cmp g a n m q (by omega) h1
        have := (pss_dn g (tn S a n) (S.1 1) hk (Nat.le_refl _)).2
        rw [z.1, z.2] at this
        omega
theorem tn_dst {S : St} (g : Good S) {a b : Nat} (ha : a < 8) (hb : b < 8) : dst S a b = if tn S a 8 b < 100 then tn S a 8 b + 1 else 0 := by
  apply dst_eq
  have s := tn_snd g a 8 b
  by_cases q : tn S a 8 b < 100
  · rw [if_pos q]
    have r := s.2 q
    have r7 := rch_7 ha hb r
    have c7 := tn_cmp g a 8 7 b (by omega) r7
    exact Or.inr ⟨_, by omega, rfl, r, fun m hm z => by have := tn_cmp g a 8 m b (by omega) z; omega⟩
  · rw [if_neg q]
    exact Or.inl ⟨rfl, fun n hn z => by have := tn_cmp g a 8 n b (by omega) z; omega⟩
