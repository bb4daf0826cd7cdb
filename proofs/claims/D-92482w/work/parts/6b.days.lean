set_option maxRecDepth 100000
/-! pure law 11: sums over a room; days; walks -/
/-- an array of the heap that holds D up to n -/
def fy (f : Nat → Nat → Int32) (A n : Nat) (D : Nat → Int32) : Nat → Nat → Int32 := fun x k => if x = A ∧ k < n then D k else f x k
theorem fy_rd {f : Nat → Nat → Int32} {A n k : Nat} {D : Nat → Int32} (h : k < n) : fy f A n D A k = D k := if_pos ⟨rfl, h⟩
theorem fy_off {f : Nat → Nat → Int32} {A n x k : Nat} {D : Nat → Int32} (h : ¬ (x = A ∧ k < n)) : fy f A n D x k = f x k := if_neg h
theorem fy_0 (f : Nat → Nat → Int32) (A : Nat) (D : Nat → Int32) : fy f A 0 D = f := by
  funext x k
  exact if_neg (fun q => absurd q.2 (Nat.not_lt_zero k))
theorem fy_grow (f : Nat → Nat → Int32) (A i : Nat) (D : Nat → Int32) : u2 (fy f A i D) A i (D i) = fy f A (i + 1) D := by
  funext x k
  unfold u2 fy
  by_cases q : x = A ∧ k = i
  · rw [if_pos q, if_pos ⟨q.1, by omega⟩, q.2]
  · rw [if_neg q]
    by_cases q2 : x = A ∧ k < i
    · rw [if_pos q2, if_pos ⟨q2.1, by omega⟩]
    · rw [if_neg q2, if_neg (fun z => by omega)]
theorem u2_com {f : Nat → Nat → Int32} {A B i j : Nat} {v w : Int32} (h : ¬ (A = B ∧ i = j)) : u2 (u2 f A i v) B j w = u2 (u2 f B j w) A i v := by
  funext x k
  show (if x = B ∧ k = j then w else if x = A ∧ k = i then v else f x k) = (if x = A ∧ k = i then v else if x = B ∧ k = j then w else f x k)
  by_cases q : x = A ∧ k = i
  · rw [if_neg (fun z => h ⟨by omega, by omega⟩), if_pos q, if_pos q]
  · rw [if_neg q, if_neg q]
theorem u2_u2 {f : Nat → Nat → Int32} {A i : Nat} {v w : Int32} : u2 (u2 f A i v) A i w = u2 f A i w := by
  funext x k
  unfold u2
  by_cases q : x = A ∧ k = i
  · rw [if_pos q, if_pos q]
  · rw [if_neg q, if_neg q, if_neg q]
theorem u2_id {f : Nat → Nat → Int32} {A i : Nat} {v : Int32} (h : f A i = v) : u2 f A i v = f := by
  funext x k
  unfold u2
  by_cases q : x = A ∧ k = i
  · rw [if_pos q, q.1, q.2, h]
  · rw [if_neg q]
theorem fy_u2 {f : Nat → Nat → Int32} {A B n i : Nat} {v : Int32} {D : Nat → Int32} (h : A ≠ B) : u2 (fy f A n D) B i v = fy (u2 f B i v) A n D := by
  funext x k
  show (if x = B ∧ k = i then v else if x = A ∧ k < n then D k else f x k) = (if x = A ∧ k < n then D k else if x = B ∧ k = i then v else f x k)
  by_cases q : x = B ∧ k = i
  · rw [if_pos q, if_neg (fun z => h (by omega)), if_pos q]
  · rw [if_neg q, if_neg q]
def wA (S : St) (k : Nat) (D : Nat → Nat) : St := (S.1, fun q => if q = k then D else S.2 q)
theorem wA_1 (S : St) (k : Nat) (D : Nat → Nat) : (wA S k D).1 = S.1 := rfl
theorem wA_e {S : St} {k : Nat} {D : Nat → Nat} : (wA S k D).2 k = D := if_pos rfl
theorem wA_n {S : St} {k q : Nat} {D : Nat → Nat} (h : q ≠ k) : (wA S k D).2 q = S.2 q := if_neg h
theorem RepM.fy {M : Nat} {σ : Hp} {f : Nat → Nat → Int32} {S : St} (h : RepM M (hv σ f) S) (x : Nat × Nat × Nat) (hx : x ∈ pTab) (D : Nat → Nat) (f' : Nat → Nat → Int32) (hf : f' = fun a k => if a = M + x.2.1 ∧ k < x.2.2 then enc x.1 (D k) else f a k) : RepM M (hv σ f') (wA S x.1 D) := by
  subst hf
  obtain ⟨h1, h2, h3, h4⟩ := h
  refine ⟨h1, h2, fun k hk => ?_, fun y hy j hj => ?_⟩
  · have e : ¬ (M = M + x.2.1 ∧ k < x.2.2) := fun q => by have := pTab_pos x hx; omega
    show (if M = M + x.2.1 ∧ k < x.2.2 then enc x.1 (D k) else f M k) = _
    rw [if_neg e]
    exact h3 k hk
  · show (if M + y.2.1 = M + x.2.1 ∧ j < x.2.2 then enc x.1 (D j) else f (M + y.2.1) j) = enc y.1 ((wA S x.1 D).2 y.1 j)
    by_cases e : y.2.1 = x.2.1
    · have : y = x := pTab_inj y hy x hx e
      subst this
      rw [if_pos ⟨rfl, hj⟩, wA_e]
    · rw [if_neg (fun q => e (by omega)), wA_n (fun q => e (by rw [pTab_inj1 y hy x hx q]))]
      exact h4 y hy j hj
/-! how many stand in a room -/
def stn (T : Nat → Nat) (r : Nat) : Nat := sumR (fun c => if T c = 0 then 0 else 1) (6 * r) 6
theorem stn_le (T : Nat → Nat) (r : Nat) : stn T r ≤ 6 := Nat.le_trans (sumR_le (m := 1) (fun k => by split <;> omega) _ 6) (by omega)
theorem sum_b {f : Nat → Nat} {m : Nat} (h : ∀ k, f k ≤ m) (a n : Nat) (hm : m * n < 1000000) : sumR f a n < 1000000 := Nat.lt_of_le_of_lt (sumR_le h a n) hm
theorem m_stand {M : Nat} {σ : Hp} {f : Nat → Nat → Int32} {S : St} (g : Good S) (h : RepM M (hv σ f) S) {r : Nat} (hr : r < 8) : F_X10_standIn (hv σ f) M (nI r) = some (nI (stn (S.2 9) r), hv σ f) := by
  have s : SM M σ := h.1
  unfold F_X10_standIn L_X10_standIn_7
  rw [gd_hv s.1, show (6 : Int32) * nI r = nI (6 * r) from nI_mul 6 r]
  obtain ⟨n, hn⟩ := it_FU (body := fun rec st => B_X10_standIn_7 (hv σ f) M (nI r) rec st.1 st.2) (fun i => (nI (sumR (fun c => if S.2 9 c = 0 then 0 else 1) (6 * r) i), nI (6 * r + i))) 0 6 (by omega) (by omega) (fun i _ hi rec => by
    have hb := g.cn (c := 6 * r + i) (by omega)
    show B_X10_standIn_7 (hv σ f) M (nI r) rec (nI (sumR (fun c => if S.2 9 c = 0 then 0 else 1) (6 * r) i)) (nI (6 * r + i)) = rec (nI (sumR (fun c => if S.2 9 c = 0 then 0 else 1) (6 * r) i + if S.2 9 (6 * r + i) = 0 then 0 else 1), nI (6 * r + i + 1))
    by_cases q : S.2 9 (6 * r + i) = 0
    · simp (decide := true) (disch := omega) only [B_X10_standIn_7, gd_hv s.1, gI_hv s.1, pI_hv s.1, s.R9, s.A9, s.W9, b1_some, b2_some, litI, neg1, nI_add, nI_mul, e1_p1, nI_e0, ib, ib1, ite_not, if_true, if_false, not_true_eq_false, not_false_eq_true, setI_hv, h.a9, le_lit, e1_inj, show ¬ 6 * r + 6 ≤ 6 * r + i by omega, q]
    · simp (decide := true) (disch := omega) only [B_X10_standIn_7, gd_hv s.1, gI_hv s.1, pI_hv s.1, s.R9, s.A9, s.W9, b1_some, b2_some, litI, neg1, nI_add, nI_mul, e1_p1, nI_e0, ib, ib1, ite_not, if_true, if_false, not_true_eq_false, not_false_eq_true, setI_hv, h.a9, le_lit, e1_inj, show ¬ 6 * r + 6 ≤ 6 * r + i by omega, q])
  refine Eq.trans (b := it (fun rec st => B_X10_standIn_7 (hv σ f) M (nI r) rec st.1 st.2) FU (nI (sumR (fun c => if S.2 9 c = 0 then 0 else 1) (6 * r) 0), nI (6 * r + 0))) rfl (hn.trans ?_)
  simp (decide := true) (disch := omega) only [B_X10_standIn_7, b1_some, b2_some, litI, neg1, nI_add, nI_mul, e1_p1, nI_e0, ib, ib1, ite_not, if_true, if_false, not_true_eq_false, not_false_eq_true, setI_hv, le_lit, Nat.le_refl]
  rfl
/-! a house with what it holds -/
def HD (H : Nat) (f : Nat → Nat → Int32) (T K G W : Nat → Nat) : Prop := ∀ c, c < 48 → f (H + (2 + 2 * c)) 0 = e1 (T c) ∧ f (H + (2 + 2 * c)) 1 = nI (K c) ∧ f (H + (3 + 2 * c)) 0 = e1 (G c) ∧ f (H + (3 + 2 * c)) 1 = nI (W c)
def HB (T K G W : Nat → Nat) : Prop := ∀ c, c < 48 → T c ≤ 24 ∧ K c ≤ 100 ∧ G c ≤ 24 ∧ W c ≤ 100 ∧ (T c = 0 → K c = 0) ∧ (G c = 0 ↔ W c = 0)
theorem RepX.hd {N : Nat} {σ : Hp} {f : Nat → Nat → Int32} {S : St} (h : RepX N (hv σ f) S) : HD (N + 12) f (S.2 9) (S.2 10) (S.2 11) (S.2 12) := fun c hc => ⟨h.a9 hc, h.a10 hc, h.a11 hc, h.a12 hc⟩
theorem Good.hb {S : St} (g : Good S) : HB (S.2 9) (S.2 10) (S.2 11) (S.2 12) := fun c hc => by
  have := g.cn hc
  exact ⟨this.1, this.2.1, this.2.2.1, this.2.2.2.1, fun q => (this.2.2.2.2.2.1 q).1, this.2.2.2.2.2.2⟩
theorem x_held {N H : Nat} {σ : Hp} {f : Nat → Nat → Int32} {T K G W : Nat → Nat} (hs : HS N H σ) (hd : HD H f T K G W) (hb : HB T K G W) {r : Nat} (hr : r < 8) : F_X1_held (hv σ f) H (nI r) = some (nI (stn T r), hv σ f) := by
  unfold F_X1_held L_X1_held_7
  rw [hs.D, show nI r * (6 : Int32) = nI (6 * r) from (nI_mul r 6).trans (by rw [Nat.mul_comm])]
  obtain ⟨n, hn⟩ := it_FU (body := fun rec st => B_X1_held_7 H (nI r) rec st.1 st.2.1 st.2.2) (fun i => (hv σ f, nI (sumR (fun c => if T c = 0 then 0 else 1) (6 * r) i), nI (6 * r + i))) 0 6 (by omega) (by omega) (fun i _ hi rec => by
    have b := hb (6 * r + i) (by omega)
    have th := hs.there (f := f) (c := 6 * r + i) (by omega) (by omega : T (6 * r + i) < 1000) (hd _ (by omega)).1
    show B_X1_held_7 H (nI r) rec (hv σ f) (nI (sumR (fun c => if T c = 0 then 0 else 1) (6 * r) i)) (nI (6 * r + i)) = rec (hv σ f, nI (sumR (fun c => if T c = 0 then 0 else 1) (6 * r) i + if T (6 * r + i) = 0 then 0 else 1), nI (6 * r + i + 1))
    by_cases q : T (6 * r + i) = 0
    · simp (decide := true) (disch := omega) only [B_X1_held_7, hs.D, hs.R0, hs.R1, hs.N, hs.C, hs.CD, hs.CI, hs.CW, hs.G, hs.GD, hs.GI, hs.GW, th, b1_some, b2_some, litI, neg1, nI_add, nI_mul, e1_p1, nI_e0, ib, ib1, ite_not, if_true, if_false, not_true_eq_false, not_false_eq_true, setI_hv, le_lit, show ¬ (r + 1) * 6 ≤ 6 * r + i by omega, q, ne_eq]
    · simp (decide := true) (disch := omega) only [B_X1_held_7, hs.D, hs.R0, hs.R1, hs.N, hs.C, hs.CD, hs.CI, hs.CW, hs.G, hs.GD, hs.GI, hs.GW, th, b1_some, b2_some, litI, neg1, nI_add, nI_mul, e1_p1, nI_e0, ib, ib1, ite_not, if_true, if_false, not_true_eq_false, not_false_eq_true, setI_hv, le_lit, eq_lit, show ¬ (r + 1) * 6 ≤ 6 * r + i by omega, q, ne_eq])
  refine Eq.trans (b := it (fun rec st => B_X1_held_7 H (nI r) rec st.1 st.2.1 st.2.2) FU (hv σ f, nI (sumR (fun c => if T c = 0 then 0 else 1) (6 * r) 0), nI (6 * r + 0))) rfl (hn.trans ?_)
  simp (decide := true) (disch := omega) only [B_X1_held_7, b1_some, b2_some, litI, neg1, nI_add, nI_mul, e1_p1, nI_e0, ib, ib1, ite_not, if_true, if_false, not_true_eq_false, not_false_eq_true, setI_hv, le_lit, show (r + 1) * 6 ≤ 6 * r + 6 by omega]
  rfl
/-! likes in a room -/
def lkf (S : St) (T : Nat → Nat) (c k : Nat) : Nat := if k = c then 0 else if T k = 0 then 0 else if S.1 6 ≤ lkn S (T k - 1) (T c - 1) then 1 else 0
def lks (S : St) (T : Nat → Nat) (c : Nat) : Nat := sumR (lkf S T c) (6 * (c / 6)) 6
theorem lkf_le (S : St) (T : Nat → Nat) (c k : Nat) : lkf S T c k ≤ 1 := by
  unfold lkf
  repeat' split
  all_goals omega
theorem lks_le (S : St) (T : Nat → Nat) (c : Nat) : lks S T c ≤ 6 := Nat.le_trans (sumR_le (lkf_le S T c) _ 6) (by omega)
theorem Good.tl {S : St} (g : Good S) : 1 ≤ S.1 6 ∧ S.1 6 ≤ 8 := g.2.2.1
theorem c6 {c : Nat} (hc : c < 48) : nI c / nI 6 = nI (c / 6) := pk_div (by omega) (by omega) (by omega)
theorem m_likeB {M : Nat} {σ : Hp} {f : Nat → Nat → Int32} {S : St} (g : Good S) (h : RepM M (hv σ f) S) {c : Nat} (hc : c < 48) (h0 : S.2 9 c ≠ 0) : F_X10_likeBeside (hv σ f) M (nI c) = some (nI (lks S (S.2 9) c), hv σ f) := by
  have s : SM M σ := h.1
  have bc := g.cn hc
  have tl := g.tl
  unfold F_X10_likeBeside L_X10_likeBeside_10
  rw [gd_hv s.1, show nI c / (6 : Int32) * 6 = nI (6 * (c / 6)) from by rw [litI 6, c6 hc, nI_mul, Nat.mul_comm]]
  obtain ⟨n, hn⟩ := it_FU (body := fun rec st => B_X10_likeBeside_10 M (nI c) rec st.1 st.2.1 st.2.2) (fun i => (hv σ f, nI (sumR (lkf S (S.2 9) c) (6 * (c / 6)) i), nI (6 * (c / 6) + i))) 0 6 (by omega) (by omega) (fun i _ hi rec => by
    have hb := g.cn (c := 6 * (c / 6) + i) (by omega)
    have hl := lkn_le S (S.2 9 (6 * (c / 6) + i) - 1) (S.2 9 c - 1)
    show B_X10_likeBeside_10 M (nI c) rec (hv σ f) (nI (sumR (lkf S (S.2 9) c) (6 * (c / 6)) i)) (nI (6 * (c / 6) + i)) = rec (hv σ f, nI (sumR (lkf S (S.2 9) c) (6 * (c / 6)) i + if 6 * (c / 6) + i = c then 0 else if S.2 9 (6 * (c / 6) + i) = 0 then 0 else if S.1 6 ≤ lkn S (S.2 9 (6 * (c / 6) + i) - 1) (S.2 9 c - 1) then 1 else 0), nI (6 * (c / 6) + i + 1))
    by_cases q1 : 6 * (c / 6) + i = c
    · simp (decide := true) (disch := omega) only [B_X10_likeBeside_10, b1_some, b2_some, litI, neg1, nI_add, nI_mul, e1_p1, nI_e0, ib, ib1, ite_not, if_true, if_false, not_true_eq_false, not_false_eq_true, setI_hv, c6, le_lit, eq_lit, show ¬ c / 6 * 6 + 6 ≤ 6 * (c / 6) + i by omega, q1, show ¬ c / 6 * 6 + 6 ≤ c by omega]
    · by_cases q2 : S.2 9 (6 * (c / 6) + i) = 0
      · simp (decide := true) (disch := omega) only [B_X10_likeBeside_10, gd_hv s.1, gI_hv s.1, pI_hv s.1, s.R9, s.A9, s.W9, b1_some, b2_some, litI, neg1, nI_add, nI_mul, e1_p1, nI_e0, ib, ib1, ite_not, if_true, if_false, not_true_eq_false, not_false_eq_true, setI_hv, c6, le_lit, eq_lit, h.a9, e1_inj, show ¬ c / 6 * 6 + 6 ≤ 6 * (c / 6) + i by omega, q1, q2]
      · by_cases q3 : S.1 6 ≤ lkn S (S.2 9 (6 * (c / 6) + i) - 1) (S.2 9 c - 1)
        · simp (decide := true) (disch := omega) only [B_X10_likeBeside_10, gd_hv s.1, gI_hv s.1, pI_hv s.1, s.R9, s.A9, s.W9, b1_some, b2_some, litI, neg1, nI_add, nI_mul, e1_p1, nI_e0, ib, ib1, ite_not, if_true, if_false, not_true_eq_false, not_false_eq_true, setI_hv, c6, le_lit, lt_lit, eq_lit, h.a9, h.s6, e1_inj, e1_of, m_lk g h, show ¬ c / 6 * 6 + 6 ≤ 6 * (c / 6) + i by omega, q1, q2, q3, show ¬ lkn S (S.2 9 (6 * (c / 6) + i) - 1) (S.2 9 c - 1) < S.1 6 by omega]
        · simp (decide := true) (disch := omega) only [B_X10_likeBeside_10, gd_hv s.1, gI_hv s.1, pI_hv s.1, s.R9, s.A9, s.W9, b1_some, b2_some, litI, neg1, nI_add, nI_mul, e1_p1, nI_e0, ib, ib1, ite_not, if_true, if_false, not_true_eq_false, not_false_eq_true, setI_hv, c6, le_lit, lt_lit, eq_lit, h.a9, h.s6, e1_inj, e1_of, m_lk g h, show ¬ c / 6 * 6 + 6 ≤ 6 * (c / 6) + i by omega, q1, q2, q3, show lkn S (S.2 9 (6 * (c / 6) + i) - 1) (S.2 9 c - 1) < S.1 6 by omega])
  refine Eq.trans (b := it (fun rec st => B_X10_likeBeside_10 M (nI c) rec st.1 st.2.1 st.2.2) FU (hv σ f, nI (sumR (lkf S (S.2 9) c) (6 * (c / 6)) 0), nI (6 * (c / 6) + 0))) rfl (hn.trans ?_)
  show B_X10_likeBeside_10 M (nI c) _ (hv σ f) _ (nI (6 * (c / 6) + 6)) = _
  unfold B_X10_likeBeside_10
  rw [if_pos (by rw [litI 6, c6 hc, nI_mul, nI_add, le_lit (by omega) (by omega)]; omega)]
  rfl
/-! the component's own -/
def LkX (N : Nat) (f : Nat → Nat → Int32) (S : St) : Prop := (∀ i, i < 24 → f (N + 10) i = nI (S.2 5 i)) ∧ f N 3 = nI (S.1 6) ∧ f N 4 = nI (S.1 7) ∧ ∀ i, i < 11 → f (N + 11) i = nI (S.2 8 i)
theorem RepX.lk {N : Nat} {σ : Hp} {f : Nat → Nat → Int32} {S : St} (h : RepX N (hv σ f) S) : LkX N f S := ⟨fun i hi => h.a5 hi, h.s6, h.s7, fun i hi => h.a8 hi⟩
theorem Good.mk {S : St} (g : Good S) {t : Nat} (ht : t < 24) : S.2 5 t < 256 := g.2.2.2.2.2.2.2.1 t ht
theorem xl_lk {N : Nat} {σ : Hp} {f : Nat → Nat → Int32} {S : St} (g : Good S) (s : SX N σ) (h : LkX N f S) {a b : Nat} (ha : a < 24) (hb : b < 24) : F_X0_likeness (hv σ f) N (nI a) (nI b) = some (nI (lkn S a b), hv σ f) := by
  simp (decide := true) (disch := omega) only [F_X0_likeness, gd_hv s.t0, gI_hv s.t0, pI_hv s.t0, s.R2, s.A10, s.W10, b1_some, b2_some, litI, neg1, nI_add, nI_mul, e1_p1, nI_e0, ib, ib1, ite_not, if_true, if_false, not_true_eq_false, not_false_eq_true, setI_hv, h.1, nx_and, bc _ (and_lt (b := S.2 5 b) (g.mk ha))]
  rfl
theorem xl_isLike {N : Nat} {σ : Hp} {f : Nat → Nat → Int32} {S : St} (g : Good S) (s : SX N σ) (h : LkX N f S) {a b : Nat} (ha : a < 24) (hb : b < 24) : F_X0_isLike (hv σ f) N (nI a) (nI b) = some (if S.1 6 ≤ lkn S a b then nI 1 else nI 0, hv σ f) := by
  have tl := g.tl
  have hl := lkn_le S a b
  by_cases q : S.1 6 ≤ lkn S a b
  · simp (decide := true) (disch := omega) only [F_X0_isLike, gd_hv s.t0, gI_hv s.t0, pI_hv s.t0, xl_lk g s h, b1_some, b2_some, litI, neg1, nI_add, nI_mul, e1_p1, nI_e0, ib, ib1, ite_not, if_true, if_false, not_true_eq_false, not_false_eq_true, setI_hv, h.2.1, lt_lit, show ¬ lkn S a b < S.1 6 by omega, q]
  · simp (decide := true) (disch := omega) only [F_X0_isLike, gd_hv s.t0, gI_hv s.t0, pI_hv s.t0, xl_lk g s h, b1_some, b2_some, litI, neg1, nI_add, nI_mul, e1_p1, nI_e0, ib, ib1, ite_not, if_true, if_false, not_true_eq_false, not_false_eq_true, setI_hv, h.2.1, lt_lit, show lkn S a b < S.1 6 by omega, q]
theorem x_likes {N H : Nat} {σ : Hp} {f : Nat → Nat → Int32} {S : St} {T : Nat → Nat} (g : Good S) (s : SX N σ) (hs : HS N H σ) (hk : LkX N f S) (hd : ∀ c, c < 48 → f (H + (2 + 2 * c)) 0 = e1 (T c) ∧ T c ≤ 24) {c : Nat} (hc : c < 48) (h0 : T c ≠ 0) : F_X1_likes (hv σ f) H (nI c) = some (nI (lks S T c), hv σ f) := by
  have bc := hd c hc
  unfold F_X1_likes L_X1_likes_10
  rw [hs.D, show nI c / (6 : Int32) * 6 = nI (6 * (c / 6)) from by rw [litI 6, c6 hc, nI_mul, Nat.mul_comm]]
  obtain ⟨n, hn⟩ := it_FU (body := fun rec st => B_X1_likes_10 H (nI c) rec st.1 st.2.1 st.2.2) (fun i => (hv σ f, nI (sumR (lkf S T c) (6 * (c / 6)) i), nI (6 * (c / 6) + i))) 0 6 (by omega) (by omega) (fun i _ hi rec => by
    have hb := hd (6 * (c / 6) + i) (by omega)
    have th := hs.there (f := f) (c := 6 * (c / 6) + i) (by omega) (by omega : T (6 * (c / 6) + i) < 1000) hb.1
    show B_X1_likes_10 H (nI c) rec (hv σ f) (nI (sumR (lkf S T c) (6 * (c / 6)) i)) (nI (6 * (c / 6) + i)) = rec (hv σ f, nI (sumR (lkf S T c) (6 * (c / 6)) i + if 6 * (c / 6) + i = c then 0 else if T (6 * (c / 6) + i) = 0 then 0 else if S.1 6 ≤ lkn S (T (6 * (c / 6) + i) - 1) (T c - 1) then 1 else 0), nI (6 * (c / 6) + i + 1))
    by_cases q1 : 6 * (c / 6) + i = c
    · simp (decide := true) (disch := omega) only [B_X1_likes_10, b1_some, b2_some, litI, neg1, nI_add, nI_mul, e1_p1, nI_e0, ib, ib1, ite_not, if_true, if_false, not_true_eq_false, not_false_eq_true, setI_hv, c6, le_lit, eq_lit, q1, show ¬ (c / 6 + 1) * 6 ≤ c by omega]
    · by_cases q2 : T (6 * (c / 6) + i) = 0
      · simp (decide := true) (disch := omega) only [B_X1_likes_10, hs.D, hs.R0, hs.R1, hs.N, hs.C, hs.CD, hs.CI, hs.CW, hs.G, hs.GD, hs.GI, hs.GW, th, b1_some, b2_some, litI, neg1, nI_add, nI_mul, e1_p1, nI_e0, ib, ib1, ite_not, if_true, if_false, not_true_eq_false, not_false_eq_true, setI_hv, c6, le_lit, eq_lit, show ¬ (c / 6 + 1) * 6 ≤ 6 * (c / 6) + i by omega, q1, q2, ne_eq]
      · have tk := xl_isLike g s hk (a := T (6 * (c / 6) + i) - 1) (b := T c - 1) (by omega) (by omega)
        by_cases q3 : S.1 6 ≤ lkn S (T (6 * (c / 6) + i) - 1) (T c - 1)
        · simp (decide := true) (disch := omega) only [B_X1_likes_10, hs.D, hs.R0, hs.R1, hs.N, hs.C, hs.CD, hs.CI, hs.CW, hs.G, hs.GD, hs.GI, hs.GW, th, b1_some, b2_some, litI, neg1, nI_add, nI_mul, e1_p1, nI_e0, ib, ib1, ite_not, if_true, if_false, not_true_eq_false, not_false_eq_true, setI_hv, c6, le_lit, eq_lit, hb.1, bc.1, e1_of, tk, show ¬ (c / 6 + 1) * 6 ≤ 6 * (c / 6) + i by omega, q1, q2, q3, ne_eq]
        · simp (decide := true) (disch := omega) only [B_X1_likes_10, hs.D, hs.R0, hs.R1, hs.N, hs.C, hs.CD, hs.CI, hs.CW, hs.G, hs.GD, hs.GI, hs.GW, th, b1_some, b2_some, litI, neg1, nI_add, nI_mul, e1_p1, nI_e0, ib, ib1, ite_not, if_true, if_false, not_true_eq_false, not_false_eq_true, setI_hv, c6, le_lit, eq_lit, hb.1, bc.1, e1_of, tk, show ¬ (c / 6 + 1) * 6 ≤ 6 * (c / 6) + i by omega, q1, q2, q3, ne_eq])
  refine Eq.trans (b := it (fun rec st => B_X1_likes_10 H (nI c) rec st.1 st.2.1 st.2.2) FU (hv σ f, nI (sumR (lkf S T c) (6 * (c / 6)) 0), nI (6 * (c / 6) + 0))) rfl (hn.trans ?_)
  show B_X1_likes_10 H (nI c) _ (hv σ f) _ (nI (6 * (c / 6) + 6)) = _
  unfold B_X1_likes_10
  rw [if_pos (by rw [litI 6, litI 1, c6 hc, nI_add, nI_mul, le_lit (by omega) (by omega)]; omega)]
  rfl
