set_option maxRecDepth 100000
/-! pure law 33: two sorts, one row -/
def cnt (A : Nat → Nat) (v : Nat) : Nat → Nat
  | 0 => 0
  | n + 1 => cnt A v n + if A n = v then 1 else 0
def Srt (A : Nat → Nat) (n : Nat) : Prop := ∀ i j, i ≤ j → j < n → A i ≤ A j
theorem cnt_pos {A : Nat → Nat} {v : Nat} : ∀ n, 0 < cnt A v n → ∃ j, j < n ∧ A j = v
  | 0, h => absurd h (Nat.lt_irrefl 0)
  | n + 1, h => by
    by_cases q : A n = v
    · exact ⟨n, by omega, q⟩
    · have e : cnt A v (n + 1) = cnt A v n := by
        show cnt A v n + (if A n = v then 1 else 0) = _
        rw [if_neg q]
        rfl
      rw [e] at h
      obtain ⟨j, a, b⟩ := cnt_pos n h
      exact ⟨j, by omega, b⟩
theorem srt_uniq {A B : Nat → Nat} : ∀ n, Srt A n → Srt B n → (∀ v, cnt A v n = cnt B v n) → ∀ i, i < n → A i = B i
  | 0, _, _, _, i, hi => absurd hi (Nat.not_lt_zero i)
  | n + 1, ha, hb, hc, i, hi => by
    have le1 : ∀ (A B : Nat → Nat), Srt B (n + 1) → (∀ v, cnt A v (n + 1) = cnt B v (n + 1)) → A n ≤ B n := fun A B hb hc => by
      have p : 0 < cnt B (A n) (n + 1) := by
        rw [← hc]
        show 0 < cnt A (A n) n + (if A n = A n then 1 else 0)
        rw [if_pos rfl]
        omega
      obtain ⟨j, a, b⟩ := cnt_pos _ p
      rw [← b]
      exact hb j n (by omega) (by omega)
    have e : A n = B n := Nat.le_antisymm (le1 A B hb hc) (le1 B A ha (fun v => (hc v).symm))
    by_cases q : i = n
    · rw [q]; exact e
    · refine srt_uniq n (fun i j h1 h2 => ha i j h1 (by omega)) (fun i j h1 h2 => hb i j h1 (by omega)) (fun v => ?_) i (by omega)
      have := hc v
      have e1 : cnt A v n + (if A n = v then 1 else 0) = cnt B v n + (if B n = v then 1 else 0) := this
      rw [e] at e1
      omega
theorem cnt_cg {A B : Nat → Nat} {v : Nat} : ∀ n, (∀ i, i < n → A i = B i) → cnt A v n = cnt B v n
  | 0, _ => rfl
  | n + 1, h => by
    show cnt A v n + (if A n = v then 1 else 0) = cnt B v n + (if B n = v then 1 else 0)
    rw [cnt_cg n (fun i hi => h i (by omega)), h n (by omega)]
theorem cnt_up {A : Nat → Nat} {i w v : Nat} : ∀ n, i < n → cnt (up A i w) v n + (if A i = v then 1 else 0) = cnt A v n + (if w = v then 1 else 0)
  | 0, h => absurd h (Nat.not_lt_zero i)
  | n + 1, h => by
    show cnt (up A i w) v n + (if up A i w n = v then 1 else 0) + (if A i = v then 1 else 0) = cnt A v n + (if A n = v then 1 else 0) + (if w = v then 1 else 0)
    by_cases q : i = n
    · subst q
      rw [up_e, cnt_cg (A := up A i w) (B := A) i (fun j hj => up_n (by omega))]
      omega
    · have ih := cnt_up (A := A) (i := i) (w := w) (v := v) n (by omega)
      rw [up_n (by omega)]
      omega
/-- two places, the less first -/
def lss (A : Nat → Nat) (a b : Nat) : Nat := if A b ≤ A a then A b else A a
def exA (A : Nat → Nat) (a b : Nat) : Nat → Nat := up (up A b (A a + A b - lss A a b)) a (lss A a b)
theorem exA_cnt {A : Nat → Nat} {a b n v : Nat} (hab : a < b) (hb : b < n) : cnt (exA A a b) v n = cnt A v n := by
  have h1 := cnt_up (A := up A b (A a + A b - lss A a b)) (i := a) (w := lss A a b) (v := v) n (by omega)
  have h2 := cnt_up (A := A) (i := b) (w := A a + A b - lss A a b) (v := v) n hb
  rw [up_n (by omega)] at h1
  unfold exA
  unfold lss at *
  by_cases q : A b ≤ A a
  · rw [if_pos q] at *
    rw [Nat.add_sub_cancel] at *
    omega
  · rw [if_neg q] at *
    rw [Nat.add_sub_cancel_left] at *
    omega
theorem exA_a (A : Nat → Nat) (a b : Nat) : exA A a b a = lss A a b := up_e
theorem exA_b {A : Nat → Nat} {a b : Nat} (h : a < b) : exA A a b b = A a + A b - lss A a b := by
  unfold exA
  rw [up_n (by omega), up_e]
theorem exA_n {A : Nat → Nat} {a b j : Nat} (h1 : j ≠ a) (h2 : j ≠ b) : exA A a b j = A j := by
  unfold exA
  rw [up_n h1, up_n h2]
theorem lss_le (A : Nat → Nat) (a b : Nat) : lss A a b ≤ A a ∧ lss A a b ≤ A b ∧ lss A a b ≤ A a + A b - lss A a b ∧ (lss A a b = A a ∨ lss A a b = A b) := by
  unfold lss
  by_cases q : A b ≤ A a
  · rw [if_pos q]; omega
  · rw [if_neg q]; omega
def exI (A : Nat → Nat) (a : Nat) : Nat → (Nat → Nat)
  | 0 => A
  | t + 1 => exA (exI A a t) a (a + 1 + t)
def exO (n : Nat) (A : Nat → Nat) : Nat → (Nat → Nat)
  | 0 => A
  | a + 1 => exI (exO n A a) a (n - 1 - a)
def srt (n : Nat) (A : Nat → Nat) : Nat → Nat := exO n A n
def Pfx (n : Nat) (A : Nat → Nat) (a : Nat) : Prop := ∀ i j, i < a → i < j → j < n → A i ≤ A j
theorem exI_ok {n a : Nat} {A : Nat → Nat} (m : Nat) (hA : Pfx n A a) (hm : ∀ i, i < n → A i ≤ m) : ∀ t, a + t < n → Pfx n (exI A a t) a ∧ (∀ j, a < j → j ≤ a + t → exI A a t a ≤ exI A a t j) ∧ (∀ v, cnt (exI A a t) v n = cnt A v n) ∧ ∀ i, i < n → exI A a t i ≤ m
  | 0, _ => ⟨hA, fun j h1 h2 => absurd h1 (by omega), fun _ => rfl, hm⟩
  | t + 1, h => by
    obtain ⟨i1, i2, i3, i4⟩ := exI_ok m hA hm t (by omega)
    show Pfx n (exA (exI A a t) a (a + 1 + t)) a ∧ (∀ j, a < j → j ≤ a + (t + 1) → exA (exI A a t) a (a + 1 + t) a ≤ exA (exI A a t) a (a + 1 + t) j) ∧ (∀ v, cnt (exA (exI A a t) a (a + 1 + t)) v n = cnt A v n) ∧ ∀ i, i < n → exA (exI A a t) a (a + 1 + t) i ≤ m
    generalize exI A a t = B at i1 i2 i3 i4
    have l := lss_le B a (a + 1 + t)
    refine ⟨fun i j h1 h2 h3 => ?_, fun j h1 h2 => ?_, fun v => (exA_cnt (by omega) (by omega)).trans (i3 v), fun i hi => ?_⟩
    · rw [exA_n (by omega) (by omega)]
      have b1 := i1 i a h1 h1 (by omega)
      have b2 := i1 i (a + 1 + t) h1 (by omega) (by omega)
      by_cases q : j = a
      · rw [q, exA_a]
        omega
      · by_cases q2 : j = a + 1 + t
        · rw [q2, exA_b (by omega)]
          omega
        · rw [exA_n q q2]
          exact i1 i j h1 h2 h3
    · rw [exA_a]
      by_cases q2 : j = a + 1 + t
      · rw [q2, exA_b (by omega)]
        omega
      · rw [exA_n (by omega) q2]
        have := i2 j h1 (by omega)
        omega
    · have m1 := i4 a (by omega)
      have m2 := i4 (a + 1 + t) (by omega)
      by_cases q : i = a
      · rw [q, exA_a]
        omega
      · by_cases q2 : i = a + 1 + t
        · rw [q2, exA_b (by omega)]
          omega
        · rw [exA_n q q2]
          exact i4 i hi
theorem exO_ok {n : Nat} {A : Nat → Nat} (m : Nat) (hm : ∀ i, i < n → A i ≤ m) : ∀ a, a ≤ n → Pfx n (exO n A a) a ∧ (∀ v, cnt (exO n A a) v n = cnt A v n) ∧ ∀ i, i < n → exO n A a i ≤ m
  | 0, _ => ⟨fun i j h1 => absurd h1 (Nat.not_lt_zero i), fun _ => rfl, hm⟩
  | a + 1, h => by
    obtain ⟨i1, i2, i3⟩ := exO_ok m hm a (by omega)
    obtain ⟨j1, j2, j3, j4⟩ := exI_ok (n := n) m i1 i3 (n - 1 - a) (by omega)
    show Pfx n (exI (exO n A a) a (n - 1 - a)) (a + 1) ∧ (∀ v, cnt (exI (exO n A a) a (n - 1 - a)) v n = cnt A v n) ∧ ∀ i, i < n → exI (exO n A a) a (n - 1 - a) i ≤ m
    refine ⟨fun i j h1 h2 h3 => ?_, fun v => (j3 v).trans (i2 v), j4⟩
    by_cases q : i = a
    · rw [q]
      exact j2 j (by omega) (by omega)
    · exact j1 i j (by omega) h2 h3
theorem srt_ok {n : Nat} {A : Nat → Nat} (m : Nat) (hm : ∀ i, i < n → A i ≤ m) : Srt (srt n A) n ∧ (∀ v, cnt (srt n A) v n = cnt A v n) ∧ ∀ i, i < n → srt n A i ≤ m := by
  obtain ⟨i1, i2, i3⟩ := exO_ok (n := n) m hm n (Nat.le_refl _)
  refine ⟨fun i j h1 h2 => ?_, i2, i3⟩
  by_cases q : i = j
  · rw [q]; exact Nat.le_refl _
  · exact i1 i j (by omega) (by omega) h2
/-! the component's: one is put where it belongs -/
def shA (A : Nat → Nat) (k t : Nat) : Nat → Nat := fun p => if k + 1 - t < p ∧ p ≤ k + 1 then A (p - 1) else A p
theorem shA_s {A : Nat → Nat} {k t : Nat} (h : t ≤ k) : up (shA A k t) (k + 1 - t) (A (k - t)) = shA A k (t + 1) := by
  funext p
  unfold up shA
  by_cases q : p = k + 1 - t
  · rw [if_pos q, if_pos (by omega), q, show k + 1 - t - 1 = k - t by omega]
  · rw [if_neg q]
    by_cases q2 : k + 1 - t < p ∧ p ≤ k + 1
    · rw [if_pos q2, if_pos (by omega)]
    · rw [if_neg q2, if_neg (by omega)]
theorem shA_lo {A : Nat → Nat} {k t p : Nat} (h : p ≤ k + 1 - t) : shA A k t p = A p := if_neg (by omega)
theorem shA_hi {A : Nat → Nat} {k t p : Nat} (h : k + 1 - t < p) (h2 : p ≤ k + 1) : shA A k t p = A (p - 1) := if_pos ⟨h, h2⟩
theorem shA_far {A : Nat → Nat} {k t p : Nat} (h2 : k + 1 < p) : shA A k t p = A p := if_neg (by omega)
def inA (A : Nat → Nat) (k t : Nat) : Nat → Nat := up (shA A k t) (k + 1 - t) (A (k + 1))
theorem inA_cnt {A : Nat → Nat} {k n : Nat} (hk : k + 1 < n) (v : Nat) : ∀ t, t ≤ k + 1 → cnt (inA A k t) v n = cnt A v n
  | 0, _ => cnt_cg n (fun i hi => by
    unfold inA
    by_cases q : i = k + 1
    · rw [q]
      exact up_e
    · rw [up_n (by omega)]
      exact if_neg (by omega))
  | t + 1, h => by
    have ih := inA_cnt (A := A) hk v t (by omega)
    have h1 := cnt_up (A := shA A k (t + 1)) (i := k + 1 - (t + 1)) (w := A (k + 1)) (v := v) n (by omega)
    have h2 := cnt_up (A := shA A k t) (i := k + 1 - t) (w := A (k + 1)) (v := v) n (by omega)
    have h3 := cnt_up (A := shA A k t) (i := k + 1 - t) (w := A (k - t)) (v := v) n (by omega)
    rw [shA_s (by omega)] at h3
    rw [shA_lo (by omega), show k + 1 - (t + 1) = k - t by omega] at h1
    unfold inA at ih ⊢
    rw [show k + 1 - (t + 1) = k - t by omega]
    omega
theorem inA_srt {A : Nat → Nat} {k t : Nat} (ht : t ≤ k + 1) (hs : Srt A (k + 1)) (h1 : ∀ s, s < t → A (k + 1) < A (k - s)) (h2 : t = k + 1 ∨ A (k - t) ≤ A (k + 1)) : Srt (inA A k t) (k + 2) := fun i j hij hj => by
  have lo : ∀ p, p < k + 1 - t → inA A k t p = A p := fun p hp => (up_n (by omega)).trans (shA_lo (by omega))
  have md : inA A k t (k + 1 - t) = A (k + 1) := up_e
  have hi : ∀ p, k + 1 - t < p → p ≤ k + 1 → inA A k t p = A (p - 1) := fun p h3 h4 => (up_n (by omega)).trans (shA_hi h3 h4)
  by_cases a1 : i < k + 1 - t
  · rw [lo i a1]
    by_cases a2 : j < k + 1 - t
    · rw [lo j a2]
      exact hs i j hij (by omega)
    · by_cases a3 : j = k + 1 - t
      · rw [a3, md]
        have := hs i (k - t) (by omega) (by omega)
        rcases h2 with q | q
        · omega
        · omega
      · rw [hi j (by omega) (by omega)]
        exact hs i (j - 1) (by omega) (by omega)
  · by_cases a2 : i = k + 1 - t
    · by_cases a3 : j = k + 1 - t
      · rw [a2, a3]; exact Nat.le_refl _
      · rw [a2, md, hi j (by omega) (by omega)]
        have := h1 (k - (j - 1)) (by omega)
        rw [show k - (k - (j - 1)) = j - 1 by omega] at this
        omega
    · rw [hi i (by omega) (by omega), hi j (by omega) (by omega)]
      exact hs (i - 1) (j - 1) (by omega) (by omega)
theorem inA_b {A : Nat → Nat} {k t n m : Nat} (hk : k + 1 < n) (hm : ∀ i, i < n → A i ≤ m) (i : Nat) (hi : i < n) : inA A k t i ≤ m := by
  unfold inA
  by_cases q : i = k + 1 - t
  · rw [q, up_e]
    exact hm _ hk
  · rw [up_n q]
    unfold shA
    split
    · exact hm _ (by omega)
    · exact hm _ hi
theorem x_sort {N : Nat} {σ : Hp} {f : Nat → Nat → Int32} (s : SX N σ) {n : Nat} {A : Nat → Nat} (h1 : 1 ≤ n) (h8 : n ≤ 8) (hA : ∀ i, i < n → A i ≤ 100) : F_J8_sort (hv σ (fz f (N + 212) n A)) (N + 212) (nI 0) (nI n) = some (hv σ (fz f (N + 212) n (srt n A))) := by
  have al : ∀ F, aL 0 (N + 212) (hv σ F) = some (nI 8) := fun F => by
    have e : aN 0 (N + 212) (hv σ F) = some 8 := s.n212
    unfold aL
    rw [e]
    rfl
  have ins : F_J9_insertionSort (hv σ (fz f (N + 212) n A)) (N + 212) (nI 0) (nI n) = some (hv σ (fz f (N + 212) n (srt n A))) := by
    unfold F_J9_insertionSort L_J9_insertionSort_3
    obtain ⟨st, r, ⟨B, es, p1, p2, p3⟩, e⟩ := it_invF (body := fun rec st => B_J9_insertionSort_3 (N + 212) (nI 0) (nI n) rec st.1 st.2) (fun k st => ∃ B, st = (hv σ (fz f (N + 212) n B), nI k) ∧ Srt B (k + 1) ∧ (∀ v, cnt B v n = cnt A v n) ∧ ∀ i, i < n → B i ≤ 100) 0 (n - 1) (by omega) (by omega) (fun k st _ hk hq => by
      obtain ⟨B, rfl, p1, p2, p3⟩ := hq
      have b1 := p3 (k + 1) (by omega)
      have b2 := p3 k (by omega)
      have r1 : fz f (N + 212) n B (N + 212) (k + 1) = nI (B (k + 1)) := fz_rd (by omega)
      have r2 : fz f (N + 212) n B (N + 212) k = nI (B k) := fz_rd (by omega)
      have km : nI k + nI 1 - nI 1 = nI k := by rw [nI_add, nI_sub (by omega), Nat.add_sub_cancel]
      have km' : nI (k + 1) - nI 1 = nI k := by rw [nI_sub (by omega), Nat.add_sub_cancel]
      by_cases q : B k ≤ B (k + 1)
      · refine ⟨_, ⟨B, rfl, fun i j hij hj => ?_, p2, p3⟩, fun rec => ?_⟩
        · by_cases e : j = k + 1
          · by_cases e2 : i = k + 1
            · rw [e, e2]; exact Nat.le_refl _
            · rw [e]
              have := p1 i k (by omega) (by omega)
              omega
          · exact p1 i j hij (by omega)
        · generalize fz f (N + 212) n B = F at r1 r2
          simp (decide := true) (disch := omega) only [B_J9_insertionSort_3, s.A212, b1_some, b2_some, litI, neg1, nI_add, nI_mul, e1_p1, nI_e0, ib, ib1, ite_not, if_true, if_false, not_true_eq_false, not_false_eq_true, setI_hv, le_lit, show ¬ n ≤ k + 1 by omega, r1, r2, km', q]
      · obtain ⟨t, ht, g1, g2⟩ := first (P := fun s => B (k - s) ≤ B (k + 1)) (k + 1)
        have g1' : ∀ s, s < t → B (k + 1) < B (k - s) := fun s hs => by have := g1 s hs; omega
        refine ⟨_, ⟨inA B k t, rfl, inA_srt ht p1 g1' g2, fun v => (inA_cnt (by omega) v t ht).trans (p2 v), inA_b (by omega) p3⟩, fun rec => ?_⟩
        have lp : L_J9_insertionSort_30 rec (N + 212) (nI 0) (nI n) (nI (k + 1)) (nI (B (k + 1))) FU (hv σ (fz f (N + 212) n B), nI (k + 1)) = rec (hv σ (fz f (N + 212) n (inA B k t)), nI (k + 1)) := by
          unfold L_J9_insertionSort_30
          obtain ⟨m, hm⟩ := it_FU (body := fun rec' st => B_J9_insertionSort_30 rec (N + 212) (nI 0) (nI n) (nI (k + 1)) (nI (B (k + 1))) rec' st.1 st.2) (fun s => (hv σ (fz f (N + 212) n (shA B k s)), nI (k + 1 - s))) 0 t (by omega) (by omega) (fun s' _ hs rec' => by
            have b3 := p3 (k - s') (by omega)
            have := g1' s' hs
            have r3 : fz f (N + 212) n (shA B k s') (N + 212) (k - s') = nI (B (k - s')) := by rw [fz_rd (by omega), shA_lo (by omega)]
            show B_J9_insertionSort_30 rec (N + 212) (nI 0) (nI n) (nI (k + 1)) (nI (B (k + 1))) rec' (hv σ (fz f (N + 212) n (shA B k s'))) (nI (k + 1 - s')) = rec' (hv σ (fz f (N + 212) n (shA B k (s' + 1))), nI (k + 1 - (s' + 1)))
            rw [← shA_s (by omega), ← fz_up (by omega)]
            generalize fz f (N + 212) n (shA B k s') = F at r3
            rw [show k + 1 - (s' + 1) = k - s' by omega, show k + 1 - s' = k - s' + 1 by omega]
            simp (decide := true) (disch := omega) only [B_J9_insertionSort_30, s.A212, s.W212, b1_some, b2_some, litI, neg1, nI_add, nI_mul, e1_p1, nI_e0, ib, ib1, ite_not, if_true, if_false, not_true_eq_false, not_false_eq_true, setI_hv, nI_e, e1_s, lt_lit, le_lit, show ¬ k - s' < 0 by omega, r3, show ¬ B (k - s') ≤ B (k + 1) by omega])
          have z0 : shA B k 0 = B := by
            funext p
            exact if_neg (by omega)
          rw [z0] at hm
          refine hm.trans ?_
          show B_J9_insertionSort_30 rec (N + 212) (nI 0) (nI n) (nI (k + 1)) (nI (B (k + 1))) m (hv σ (fz f (N + 212) n (shA B k t))) (nI (k + 1 - t)) = _
          unfold inA
          rw [← fz_up (by omega)]
          by_cases et : t = k + 1
          · rw [et, Nat.sub_self]
            simp (decide := true) (disch := omega) only [B_J9_insertionSort_30, F_J9_insertionSort_57, s.W212, b1_some, b2_some, litI, neg1, nI_add, nI_mul, e1_p1, nI_e0, ib, ib1, ite_not, if_true, if_false, not_true_eq_false, not_false_eq_true, setI_hv, nI_e, e1_lt, Nat.le_refl]
          · have r3 : fz f (N + 212) n (shA B k t) (N + 212) (k - t) = nI (B (k - t)) := by rw [fz_rd (by omega), shA_lo (by omega)]
            have b3 := p3 (k - t) (by omega)
            have g2' : B (k - t) ≤ B (k + 1) := g2.resolve_left et
            generalize fz f (N + 212) n (shA B k t) = F at r3
            rw [show k + 1 - t = k - t + 1 by omega]
            simp (decide := true) (disch := omega) only [B_J9_insertionSort_30, F_J9_insertionSort_57, s.A212, s.W212, b1_some, b2_some, litI, neg1, nI_add, nI_mul, e1_p1, nI_e0, ib, ib1, ite_not, if_true, if_false, not_true_eq_false, not_false_eq_true, setI_hv, nI_e, e1_s, lt_lit, le_lit, show ¬ k - t < 0 by omega, r3, g2']
        rw [← lp]
        generalize fz f (N + 212) n B = F at r1 r2
        simp (decide := true) (disch := omega) only [B_J9_insertionSort_3, s.A212, b1_some, b2_some, litI, neg1, nI_add, nI_mul, e1_p1, nI_e0, ib, ib1, ite_not, if_true, if_false, not_true_eq_false, not_false_eq_true, setI_hv, le_lit, show ¬ n ≤ k + 1 by omega, r1, r2, km', q]) (hv σ (fz f (N + 212) n A), nI 0) ⟨A, rfl, fun i j hij hj => Nat.le_of_eq (congrArg A (by omega)), fun _ => rfl, hA⟩
    subst es
    obtain ⟨q1, q2, q3⟩ := srt_ok 100 hA
    rw [show n - 1 + 1 = n by omega] at p1
    have ee : fz f (N + 212) n B = fz f (N + 212) n (srt n A) := fz_cg (fun k hk => srt_uniq n p1 q1 (fun v => (p2 v).trans (q2 v).symm) k hk)
    refine Eq.trans e ?_
    rw [ee]
    simp (decide := true) (disch := omega) only [B_J9_insertionSort_3, b1_some, b2_some, litI, neg1, nI_add, nI_mul, e1_p1, nI_e0, ib, ib1, ite_not, if_true, if_false, not_true_eq_false, not_false_eq_true, setI_hv, le_lit, show n ≤ n - 1 + 1 by omega]
  simp (decide := true) (disch := omega) only [F_J8_sort, F_J8_rangeCheck, F_J9_sort, F_J9_sort_2, al, ins, b1_some, b2_some, litI, neg1, nI_add, nI_mul, e1_p1, nI_e0, ib, ib1, ite_not, if_true, if_false, not_true_eq_false, not_false_eq_true, setI_hv, le_lit, Nat.le_refl, Nat.zero_le, nI_sub, h8, show ¬ 65 + 0 ≤ n - 0 by omega, show ¬ 44 ≤ n - 0 by omega, nx_and]
