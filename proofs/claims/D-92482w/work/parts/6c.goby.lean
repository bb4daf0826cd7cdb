set_option maxRecDepth 100000
/-! pure law 12: a day goes by -/
def dKv (S : St) (v c : Nat) : Nat := if S.2 9 c = 0 then 0 else v - (S.2 8 (v / 10) + lks S (S.2 9) c)
def dWv (S : St) (v : Nat) : Nat := v - S.2 8 (v / 10)
def dGv (S : St) (w t : Nat) : Nat := if dWv S w = 0 then 0 else t
theorem dKv_le (S : St) {v c : Nat} (h : v ≤ 100) : dKv S v c ≤ 100 := by
  unfold dKv
  split <;> omega
theorem dWv_le (S : St) {v : Nat} (h : v ≤ 100) : dWv S v ≤ 100 := by
  unfold dWv
  omega
theorem HB.day {S : St} {K G W : Nat → Nat} (h : HB (S.2 9) K G W) : HB (S.2 9) (fun c => dKv S (K c) c) (fun c => dGv S (W c) (G c)) (fun c => dWv S (W c)) := fun c hc => by
  have b := h c hc
  have h1 := dKv_le S (c := c) b.2.1
  have h2 := dWv_le S b.2.2.2.1
  refine ⟨b.1, h1, ?_, h2, fun q => ?_, ?_⟩
  · show dGv S (W c) (G c) ≤ 24
    unfold dGv
    split <;> omega
  · show dKv S (K c) c = 0
    unfold dKv
    rw [if_pos q]
  · show dGv S (W c) (G c) = 0 ↔ dWv S (W c) = 0
    unfold dGv
    by_cases q : dWv S (W c) = 0
    · rw [if_pos q, q]
    · rw [if_neg q]
      have : W c ≠ 0 := fun z => q (by unfold dWv; omega)
      omega
theorem Good.fl {S : St} (g : Good S) {k : Nat} (hk : k < 11) : S.2 8 k ≤ 30 := g.2.2.2.2.2.2.2.2.1 k hk
theorem d10 {v : Nat} (h : v ≤ 100) : nI v / nI 10 = nI (v / 10) := pk_div (by omega) (by omega) (by omega)
def gb (H : Nat) (S : St) (K G W : Nat → Nat) (f : Nat → Nat → Int32) : Nat → (Nat → Nat → Int32)
  | 0 => f
  | i + 1 => u2 (u2 (u2 (gb H S K G W f i) (H + (2 + 2 * i)) 1 (nI (dKv S (K i) i))) (H + (3 + 2 * i)) 1 (nI (dWv S (W i)))) (H + (3 + 2 * i)) 0 (e1 (dGv S (W i) (G i)))
theorem gb_off {H : Nat} {S : St} {K G W : Nat → Nat} {f : Nat → Nat → Int32} {x k : Nat} : ∀ i, (∀ c, c < i → ¬ (x = H + (2 + 2 * c) ∧ k = 1) ∧ x ≠ H + (3 + 2 * c)) → gb H S K G W f i x k = f x k
  | 0, _ => rfl
  | i + 1, h => by
    have hi := h i (by omega)
    show u2 (u2 (u2 (gb H S K G W f i) (H + (2 + 2 * i)) 1 _) (H + (3 + 2 * i)) 1 _) (H + (3 + 2 * i)) 0 _ x k = f x k
    rw [u2_n (fun q => hi.2 q.1), u2_n (fun q => hi.2 q.1), u2_n hi.1]
    exact gb_off i (fun c hc => h c (by omega))
theorem gb_at {H : Nat} {S : St} {K G W : Nat → Nat} {f : Nat → Nat → Int32} {c : Nat} : ∀ i, c < i → gb H S K G W f i (H + (2 + 2 * c)) 1 = nI (dKv S (K c) c) ∧ gb H S K G W f i (H + (3 + 2 * c)) 0 = e1 (dGv S (W c) (G c)) ∧ gb H S K G W f i (H + (3 + 2 * c)) 1 = nI (dWv S (W c))
  | 0, h => absurd h (Nat.not_lt_zero c)
  | i + 1, h => by
    by_cases e : c = i
    · subst e
      show u2 (u2 (u2 (gb H S K G W f c) (H + (2 + 2 * c)) 1 _) (H + (3 + 2 * c)) 1 _) (H + (3 + 2 * c)) 0 _ _ 1 = _ ∧ u2 (u2 (u2 (gb H S K G W f c) (H + (2 + 2 * c)) 1 _) (H + (3 + 2 * c)) 1 _) (H + (3 + 2 * c)) 0 _ _ 0 = _ ∧ u2 (u2 (u2 (gb H S K G W f c) (H + (2 + 2 * c)) 1 _) (H + (3 + 2 * c)) 1 _) (H + (3 + 2 * c)) 0 _ _ 1 = _
      rw [u2_n (by omega), u2_n (by omega), u2_e, u2_e, u2_n (by omega), u2_e]
      exact ⟨rfl, rfl, rfl⟩
    · have ih := gb_at (H := H) (S := S) (K := K) (G := G) (W := W) (f := f) (c := c) i (by omega)
      show u2 (u2 (u2 (gb H S K G W f i) (H + (2 + 2 * i)) 1 _) (H + (3 + 2 * i)) 1 _) (H + (3 + 2 * i)) 0 _ _ 1 = _ ∧ u2 (u2 (u2 (gb H S K G W f i) (H + (2 + 2 * i)) 1 _) (H + (3 + 2 * i)) 1 _) (H + (3 + 2 * i)) 0 _ _ 0 = _ ∧ u2 (u2 (u2 (gb H S K G W f i) (H + (2 + 2 * i)) 1 _) (H + (3 + 2 * i)) 1 _) (H + (3 + 2 * i)) 0 _ _ 1 = _
      rw [u2_n (by omega), u2_n (by omega), u2_n (by omega), u2_n (by omega), u2_n (by omega), u2_n (by omega), u2_n (by omega), u2_n (by omega), u2_n (by omega)]
      exact ih
theorem LkX.cg {N : Nat} {f f' : Nat → Nat → Int32} {S : St} (h : LkX N f S) (e : ∀ x k, x ≤ N + 11 → f' x k = f x k) : LkX N f' S := ⟨fun i hi => (e _ _ (by omega)).trans (h.1 i hi), (e _ _ (by omega)).trans h.2.1, (e _ _ (by omega)).trans h.2.2.1, fun i hi => (e _ _ (by omega)).trans (h.2.2.2 i hi)⟩
theorem gb_1 {N H : Nat} {σ : Hp} {f : Nat → Nat → Int32} {S : St} (g : Good S) (s : SX N σ) (hs : HS N H σ) (hk : LkX N f S) (ht : ∀ c, c < 48 → f (H + (2 + 2 * c)) 0 = e1 (S.2 9 c)) {i v : Nat} (hi : i < 48) (hv' : f (H + (2 + 2 * i)) 1 = nI v) (hb : v ≤ 100 ∧ (S.2 9 i = 0 → v = 0)) (rec : Hp × Int32 → Option Hp) : B_X1_goBy_2 H rec (hv σ f) (nI i) = F_X1_goBy_47 rec (hv σ (u2 f (H + (2 + 2 * i)) 1 (nI (dKv S v i)))) H (nI i) (H + (2 + 2 * i)) := by
  have tb := (g.cn hi).1
  have th := hs.there (f := f) (c := i) hi (by omega : S.2 9 i < 1000) (ht i hi)
  by_cases q : S.2 9 i = 0
  · have v0 := hb.2 q
    have e : dKv S v i = v := by
      unfold dKv
      rw [if_pos q, v0]
    rw [e, u2_id hv']
    simp (decide := true) (disch := omega) only [B_X1_goBy_2, hs.D, hs.R0, hs.R1, hs.N, hs.C, hs.CD, hs.CI, hs.CW, hs.G, hs.GD, hs.GI, hs.GW, th, b1_some, b2_some, litI, neg1, nI_add, nI_mul, e1_p1, nI_e0, ib, ib1, ite_not, if_true, if_false, not_true_eq_false, not_false_eq_true, setI_hv, le_lit, show ¬ 48 ≤ i by omega, q, ne_eq]
  · have lk := x_likes g s hs hk (T := S.2 9) (fun c hc => ⟨ht c hc, (g.cn hc).1⟩) hi q
    have fl := g.fl (k := v / 10) (by omega)
    have ll := lks_le S (S.2 9) i
    have e : dKv S v i = v - (S.2 8 (v / 10) + lks S (S.2 9) i) := if_neg q
    rw [e]
    simp (decide := true) (disch := omega) only [B_X1_goBy_2, F_X2_fade_3, hs.D, hs.R0, hs.R1, hs.N, hs.C, hs.CD, hs.CI, hs.CW, hs.G, hs.GD, hs.GI, hs.GW, gd_hv s.t0, gI_hv s.t0, pI_hv s.t0, s.R5, s.A11, s.W11, th, lk, b1_some, b2_some, litI, neg1, nI_add, nI_mul, e1_p1, nI_e0, ib, ib1, ite_not, if_true, if_false, not_true_eq_false, not_false_eq_true, setI_hv, le_lit, eq_lit, show ¬ 48 ≤ i by omega, q, ne_eq, hv', d10, hk.2.2.2, fadeI]
theorem gb_2 {N H : Nat} {σ : Hp} {f : Nat → Nat → Int32} {S : St} (g : Good S) (s : SX N σ) (hs : HS N H σ) (hk : LkX N f S) {i t w : Nat} (hi : i < 48) (ht : f (H + (3 + 2 * i)) 0 = e1 t) (hw : f (H + (3 + 2 * i)) 1 = nI w) (hb : t ≤ 24 ∧ w ≤ 100 ∧ (t = 0 ↔ w = 0)) (rec : Hp × Int32 → Option Hp) : F_X1_goBy_47 rec (hv σ f) H (nI i) (H + (2 + 2 * i)) = rec (hv σ (u2 (u2 f (H + (3 + 2 * i)) 1 (nI (dWv S w))) (H + (3 + 2 * i)) 0 (e1 (dGv S w t))), nI (i + 1)) := by
  have gh := hs.ghost (f := f) (c := i) hi (by omega : t < 1000) (by omega : w < 1000) ht hw
  by_cases q : w = 0
  · have q2 : t = 0 := by omega
    have e1 : dWv S w = w := by unfold dWv; omega
    have e2 : dGv S w t = t := by
      unfold dGv
      rw [e1, if_pos q, q2]
    rw [e1, e2, u2_id hw, u2_id ht]
    simp (decide := true) (disch := omega) only [F_X1_goBy_47, hs.D, hs.R0, hs.R1, hs.N, hs.C, hs.CD, hs.CI, hs.CW, hs.G, hs.GD, hs.GI, hs.GW, gh, b1_some, b2_some, litI, neg1, nI_add, nI_mul, e1_p1, nI_e0, ib, ib1, ite_not, if_true, if_false, not_true_eq_false, not_false_eq_true, setI_hv, q, q2, ne_eq, and_self]
  · have q2 : ¬ t = 0 := by omega
    have fl := g.fl (k := w / 10) (by omega)
    by_cases q3 : dWv S w = 0
    · have e2 : dGv S w t = 0 := if_pos q3
      have q3' : w - S.2 8 (w / 10) = 0 := q3
      rw [e2, q3]
      have e3 : u2 (u2 (u2 f (H + (3 + 2 * i)) 1 (nI 0)) (H + (3 + 2 * i)) 0 (e1 0)) (H + (3 + 2 * i)) 1 (nI 0) = u2 (u2 f (H + (3 + 2 * i)) 1 (nI 0)) (H + (3 + 2 * i)) 0 (e1 0) := u2_id (by rw [u2_n (by omega), u2_e])
      simp (decide := true) (disch := omega) only [F_X1_goBy_47, F_X4_fade, F_X2_fade_4, F_X2_lay_4, hs.D, hs.R0, hs.R1, hs.N, hs.C, hs.CD, hs.CI, hs.CW, hs.G, hs.GD, hs.GI, hs.GW, gd_hv s.t0, gI_hv s.t0, pI_hv s.t0, s.R5, s.A11, s.W11, gh, b1_some, b2_some, litI, neg1, nI_add, nI_mul, e1_p1, nI_e0, ib, ib1, ite_not, if_true, if_false, not_true_eq_false, not_false_eq_true, setI_hv, q, q2, ne_eq, and_self, hw, d10, hk.2.2.2, fadeI, u2_e, q3', eq_lit, e3]
    · have e2 : dGv S w t = t := if_neg q3
      have e3 : dWv S w = w - S.2 8 (w / 10) := rfl
      have e4 : u2 f (H + (3 + 2 * i)) 1 (nI (dWv S w)) (H + (3 + 2 * i)) 0 = e1 t := by rw [u2_n (by omega), ht]
      rw [e2, u2_id e4]
      simp (decide := true) (disch := omega) only [F_X1_goBy_47, F_X4_fade, F_X2_fade_4, F_X2_lay_4, hs.D, hs.R0, hs.R1, hs.N, hs.C, hs.CD, hs.CI, hs.CW, hs.G, hs.GD, hs.GI, hs.GW, gd_hv s.t0, gI_hv s.t0, pI_hv s.t0, s.R5, s.A11, s.W11, gh, b1_some, b2_some, litI, neg1, nI_add, nI_mul, e1_p1, nI_e0, ib, ib1, ite_not, if_true, if_false, not_true_eq_false, not_false_eq_true, setI_hv, q, q2, ne_eq, and_self, hw, d10, hk.2.2.2, fadeI, u2_e, ← e3, q3, eq_lit]
theorem x_goBy {N H : Nat} {σ : Hp} {f : Nat → Nat → Int32} {S : St} {K G W : Nat → Nat} (g : Good S) (s : SX N σ) (hs : HS N H σ) (hN : N + 12 ≤ H) (hk : LkX N f S) (hd : HD H f (S.2 9) K G W) (hb : HB (S.2 9) K G W) : F_X1_goBy (hv σ f) H = some (hv σ (gb H S K G W f 48)) := by
  unfold F_X1_goBy L_X1_goBy_2
  rw [hs.D]
  obtain ⟨n, hn⟩ := it_FU (body := fun rec st => B_X1_goBy_2 H rec st.1 st.2) (fun i => (hv σ (gb H S K G W f i), nI i)) 0 48 (by omega) (by omega) (fun i _ hi rec => by
    have b := hb i hi
    have lk : LkX N (gb H S K G W f i) S := hk.cg (fun x k hx => gb_off i (fun c hc => by omega))
    have ht : ∀ c, c < 48 → gb H S K G W f i (H + (2 + 2 * c)) 0 = e1 (S.2 9 c) := fun c hc => (gb_off i (fun c' hc' => by omega)).trans (hd c hc).1
    have h1 := gb_1 g s hs lk ht hi ((gb_off i (fun c' hc' => by omega)).trans (hd i hi).2.1) ⟨b.2.1, b.2.2.2.2.1⟩ rec
    refine h1.trans ?_
    have lk2 : LkX N (u2 (gb H S K G W f i) (H + (2 + 2 * i)) 1 (nI (dKv S (K i) i))) S := lk.cg (fun x k hx => u2_n (by omega))
    exact gb_2 g s hs lk2 hi ((u2_n (by omega)).trans ((gb_off i (fun c' hc' => by omega)).trans (hd i hi).2.2.1)) ((u2_n (by omega)).trans ((gb_off i (fun c' hc' => by omega)).trans (hd i hi).2.2.2)) ⟨b.2.2.1, b.2.2.2.1, b.2.2.2.2.2⟩ rec)
  refine Eq.trans (b := it (fun rec st => B_X1_goBy_2 H rec st.1 st.2) FU (hv σ (gb H S K G W f 0), nI 0)) rfl (hn.trans ?_)
  simp (decide := true) (disch := omega) only [B_X1_goBy_2, litI, le_lit, Nat.le_refl, if_true]
theorem gb_hd {H : Nat} {f : Nat → Nat → Int32} {S : St} {K G W : Nat → Nat} (hd : HD H f (S.2 9) K G W) : HD H (gb H S K G W f 48) (S.2 9) (fun c => dKv S (K c) c) (fun c => dGv S (W c) (G c)) (fun c => dWv S (W c)) := fun c hc => by
  have a := gb_at (H := H) (S := S) (K := K) (G := G) (W := W) (f := f) 48 hc
  exact ⟨(gb_off 48 (fun c' hc' => by omega)).trans (hd c hc).1, a.1, a.2.1, a.2.2⟩
/-! the twin: strengths beside -/
theorem m_look {M : Nat} {σ : Hp} {f : Nat → Nat → Int32} {S : St} (g : Good S) (h : RepM M (hv σ f) S) : F_X10_lookAhead (hv σ f) M = some (hv σ (fz (fz f (M + 12) 48 (S.2 10)) (M + 13) 48 (S.2 12))) := by
  have s : SM M σ := h.1
  unfold F_X10_lookAhead L_X10_lookAhead_2
  rw [gd_hv s.1]
  obtain ⟨n, hn⟩ := it_FU (body := fun rec st => B_X10_lookAhead_2 M rec st.1 st.2) (fun i => (hv σ (fz (fz f (M + 12) i (S.2 10)) (M + 13) i (S.2 12)), nI i)) 0 48 (by omega) (by omega) (fun i _ hi rec => by
    have b := g.cn hi
    have h' : RepM M (hv σ (fz (fz f (M + 12) i (S.2 10)) (M + 13) i (S.2 12))) S := (h.zz 12 i (S.2 10) (by omega)).zz 13 i (S.2 12) (by omega)
    have e : u2 (u2 (fz (fz f (M + 12) i (S.2 10)) (M + 13) i (S.2 12)) (M + 12) i (nI (S.2 10 i))) (M + 13) i (nI (S.2 12 i)) = fz (fz f (M + 12) (i + 1) (S.2 10)) (M + 13) (i + 1) (S.2 12) := by
      have e1 : u2 (fz (fz f (M + 12) i (S.2 10)) (M + 13) i (S.2 12)) (M + 12) i (nI (S.2 10 i)) = fz (u2 (fz f (M + 12) i (S.2 10)) (M + 12) i (nI (S.2 10 i))) (M + 13) i (S.2 12) := fy_u2 (D := fun k => nI (S.2 12 k)) (by omega)
      rw [e1, fz_grow, fz_grow]
    show B_X10_lookAhead_2 M rec (hv σ (fz (fz f (M + 12) i (S.2 10)) (M + 13) i (S.2 12))) (nI i) = rec (hv σ (fz (fz f (M + 12) (i + 1) (S.2 10)) (M + 13) (i + 1) (S.2 12)), nI (i + 1))
    rw [← e]
    generalize fz (fz f (M + 12) i (S.2 10)) (M + 13) i (S.2 12) = f' at h'
    by_cases q1 : S.2 9 i = 0
    · have k0 := (b.2.2.2.2.2.1 q1).1
      have g0 := (b.2.2.2.2.2.1 q1).2
      have w0 : S.2 12 i = 0 := b.2.2.2.2.2.2.mp g0
      simp (decide := true) (disch := omega) only [B_X10_lookAhead_2, F_X10_lookAhead_33, gd_hv s.1, gI_hv s.1, pI_hv s.1, s.R9, s.A9, s.W9, s.R10, s.A10, s.W10, s.R11, s.A11, s.W11, s.R12, s.A12, s.W12, s.R15, s.A15, s.W15, s.R16, s.A16, s.W16, b1_some, b2_some, litI, neg1, nI_add, nI_mul, e1_p1, nI_e0, ib, ib1, ite_not, if_true, if_false, not_true_eq_false, not_false_eq_true, setI_hv, h'.a9, h'.a11, u2_n, le_lit, e1_inj, show ¬ 48 ≤ i by omega, q1, k0, g0, w0]
    · by_cases q2 : S.2 11 i = 0
      · have w0 : S.2 12 i = 0 := b.2.2.2.2.2.2.mp q2
        simp (decide := true) (disch := omega) only [B_X10_lookAhead_2, F_X10_lookAhead_33, gd_hv s.1, gI_hv s.1, pI_hv s.1, s.R9, s.A9, s.W9, s.R10, s.A10, s.W10, s.R11, s.A11, s.W11, s.R12, s.A12, s.W12, s.R15, s.A15, s.W15, s.R16, s.A16, s.W16, b1_some, b2_some, litI, neg1, nI_add, nI_mul, e1_p1, nI_e0, ib, ib1, ite_not, if_true, if_false, not_true_eq_false, not_false_eq_true, setI_hv, h'.a9, h'.a10, h'.a11, u2_n, le_lit, e1_inj, show ¬ 48 ≤ i by omega, q1, q2, w0]
      · simp (decide := true) (disch := omega) only [B_X10_lookAhead_2, F_X10_lookAhead_33, gd_hv s.1, gI_hv s.1, pI_hv s.1, s.R9, s.A9, s.W9, s.R10, s.A10, s.W10, s.R11, s.A11, s.W11, s.R12, s.A12, s.W12, s.R15, s.A15, s.W15, s.R16, s.A16, s.W16, b1_some, b2_some, litI, neg1, nI_add, nI_mul, e1_p1, nI_e0, ib, ib1, ite_not, if_true, if_false, not_true_eq_false, not_false_eq_true, setI_hv, h'.a9, h'.a10, h'.a11, h'.a12, u2_n, le_lit, e1_inj, show ¬ 48 ≤ i by omega, q1, q2])
  have z : fz (fz f (M + 12) 0 (S.2 10)) (M + 13) 0 (S.2 12) = f := by rw [fz_0, fz_0]
  rw [z] at hn
  refine Eq.trans (b := it (fun rec st => B_X10_lookAhead_2 M rec st.1 st.2) FU (hv σ f, nI 0)) rfl (hn.trans ?_)
  simp (decide := true) (disch := omega) only [B_X10_lookAhead_2, litI, le_lit, Nat.le_refl, if_true]
/-- the first i strengths from a place on, a day later -/
def gA (S : St) (at' i : Nat) (A : Nat → Nat) : Nat → Nat := fun k => if at' ≤ k ∧ k < at' + i then dKv S (A k) (k - at') else A k
def gW (S : St) (at' i : Nat) (B : Nat → Nat) : Nat → Nat := fun k => if at' ≤ k ∧ k < at' + i then dWv S (B k) else B k
theorem gA_s (S : St) (at' i : Nat) (A : Nat → Nat) : up (gA S at' i A) (at' + i) (dKv S (A (at' + i)) i) = gA S at' (i + 1) A := by
  funext k
  unfold up gA
  by_cases q : k = at' + i
  · rw [if_pos q, if_pos (by omega), q, Nat.add_sub_cancel_left]
  · rw [if_neg q]
    by_cases q2 : at' ≤ k ∧ k < at' + i
    · rw [if_pos q2, if_pos (by omega)]
    · rw [if_neg q2, if_neg (by omega)]
theorem gW_s (S : St) (at' i : Nat) (B : Nat → Nat) : up (gW S at' i B) (at' + i) (dWv S (B (at' + i))) = gW S at' (i + 1) B := by
  funext k
  unfold up gW
  by_cases q : k = at' + i
  · rw [if_pos q, if_pos (by omega), q]
  · rw [if_neg q]
    by_cases q2 : at' ≤ k ∧ k < at' + i
    · rw [if_pos q2, if_pos (by omega)]
    · rw [if_neg q2, if_neg (by omega)]
theorem m_goDay {M : Nat} {σ : Hp} {f : Nat → Nat → Int32} {S : St} (g : Good S) (h : RepM M (hv σ f) S) {n at' : Nat} {A B : Nat → Nat} (hn : at' + 48 ≤ n) (hn2 : n ≤ 240) (hA : ∀ k, k < n → A k ≤ 100) (hB : ∀ k, k < n → B k ≤ 100) : F_X10_goDay (hv σ (fz (fz f (M + 12) n A) (M + 13) n B)) M (nI at') (nI at') = some (hv σ (fz (fz f (M + 12) n (gA S at' 48 A)) (M + 13) n (gW S at' 48 B))) := by
  have s : SM M σ := h.1
  unfold F_X10_goDay L_X10_goDay_2
  rw [gd_hv s.1]
  obtain ⟨m, hm⟩ := it_FU (body := fun rec st => B_X10_goDay_2 M (nI at') (nI at') rec st.1 st.2) (fun i => (hv σ (fz (fz f (M + 12) n (gA S at' i A)) (M + 13) n (gW S at' i B)), nI i)) 0 48 (by omega) (by omega) (fun i _ hi rec => by
    have b := g.cn hi
    have h' : RepM M (hv σ (fz (fz f (M + 12) n (gA S at' i A)) (M + 13) n (gW S at' i B))) S := (h.zz 12 n _ (by omega)).zz 13 n _ (by omega)
    have e : u2 (u2 (fz (fz f (M + 12) n (gA S at' i A)) (M + 13) n (gW S at' i B)) (M + 12) (at' + i) (nI (dKv S (A (at' + i)) i))) (M + 13) (at' + i) (nI (dWv S (B (at' + i)))) = fz (fz f (M + 12) n (gA S at' (i + 1) A)) (M + 13) n (gW S at' (i + 1) B) := by
      have e1 : u2 (fz (fz f (M + 12) n (gA S at' i A)) (M + 13) n (gW S at' i B)) (M + 12) (at' + i) (nI (dKv S (A (at' + i)) i)) = fz (u2 (fz f (M + 12) n (gA S at' i A)) (M + 12) (at' + i) (nI (dKv S (A (at' + i)) i))) (M + 13) n (gW S at' i B) := fy_u2 (D := fun k => nI (gW S at' i B k)) (by omega)
      rw [e1, fz_up (by omega), fz_up (by omega), gA_s, gW_s]
    have rA : fz (fz f (M + 12) n (gA S at' i A)) (M + 13) n (gW S at' i B) (M + 12) (at' + i) = nI (A (at' + i)) := by
      rw [fz_off (by omega), fz_rd (by omega)]
      unfold gA
      rw [if_neg (by omega)]
    have rB : fz (fz f (M + 12) n (gA S at' i A)) (M + 13) n (gW S at' i B) (M + 13) (at' + i) = nI (B (at' + i)) := by
      rw [fz_rd (by omega)]
      unfold gW
      rw [if_neg (by omega)]
    show B_X10_goDay_2 M (nI at') (nI at') rec (hv σ (fz (fz f (M + 12) n (gA S at' i A)) (M + 13) n (gW S at' i B))) (nI i) = rec (hv σ (fz (fz f (M + 12) n (gA S at' (i + 1) A)) (M + 13) n (gW S at' (i + 1) B)), nI (i + 1))
    rw [← e]
    generalize fz (fz f (M + 12) n (gA S at' i A)) (M + 13) n (gW S at' i B) = f' at h' rA rB
    have bA := hA (at' + i) (by omega)
    have bB := hB (at' + i) (by omega)
    have fA := g.fl (k := A (at' + i) / 10) (by omega)
    have fB := g.fl (k := B (at' + i) / 10) (by omega)
    have ll := lks_le S (S.2 9) i
    have tail : ∀ y, F_X10_goDay_61 rec (hv σ f') M (nI at') (nI at') (nI i) (nI (B (at' + i))) y = rec (hv σ (u2 (u2 f' (M + 12) (at' + i) (if 0 ≤ y then y else 0)) (M + 13) (at' + i) (nI (dWv S (B (at' + i))))), nI (i + 1)) := fun y => by
      have e2 : dWv S (B (at' + i)) = B (at' + i) - S.2 8 (B (at' + i) / 10) := rfl
      by_cases q : S.2 8 (B (at' + i) / 10) ≤ B (at' + i)
      · by_cases q2 : (0 : Int32) ≤ y
        · simp (decide := true) (disch := omega) only [F_X10_goDay_61, F_X10_goDay_96, gd_hv s.1, gI_hv s.1, pI_hv s.1, s.R8, s.A8, s.W8, s.R15, s.A15, s.W15, s.R16, s.A16, s.W16, b1_some, b2_some, nI_add, show (10 : Int32) = nI 10 from rfl, d10, h'.a8, show (0 : Int32) = nI 0 from rfl, show (nI 0 ≤ y) = True from eq_true q2, if_true, fade0, q, nI_sub, le_lit, Nat.zero_le, e2, show (1 : Int32) = nI 1 from rfl]
        · simp (decide := true) (disch := omega) only [F_X10_goDay_61, F_X10_goDay_96, gd_hv s.1, gI_hv s.1, pI_hv s.1, s.R8, s.A8, s.W8, s.R15, s.A15, s.W15, s.R16, s.A16, s.W16, b1_some, b2_some, nI_add, show (10 : Int32) = nI 10 from rfl, d10, h'.a8, show (0 : Int32) = nI 0 from rfl, show (nI 0 ≤ y) = False from eq_false q2, if_true, if_false, fade0, q, nI_sub, le_lit, Nat.zero_le, e2, show (1 : Int32) = nI 1 from rfl]
      · have e3 : dWv S (B (at' + i)) = 0 := by omega
        by_cases q2 : (0 : Int32) ≤ y
        · simp (decide := true) (disch := omega) only [F_X10_goDay_61, F_X10_goDay_96, gd_hv s.1, gI_hv s.1, pI_hv s.1, s.R8, s.A8, s.W8, s.R15, s.A15, s.W15, s.R16, s.A16, s.W16, b1_some, b2_some, nI_add, show (10 : Int32) = nI 10 from rfl, d10, h'.a8, show (0 : Int32) = nI 0 from rfl, show (nI 0 ≤ y) = True from eq_true q2, if_true, if_false, fade0, q, e3, show (1 : Int32) = nI 1 from rfl]
        · simp (decide := true) (disch := omega) only [F_X10_goDay_61, F_X10_goDay_96, gd_hv s.1, gI_hv s.1, pI_hv s.1, s.R8, s.A8, s.W8, s.R15, s.A15, s.W15, s.R16, s.A16, s.W16, b1_some, b2_some, nI_add, show (10 : Int32) = nI 10 from rfl, d10, h'.a8, show (0 : Int32) = nI 0 from rfl, show (nI 0 ≤ y) = False from eq_false q2, if_true, if_false, fade0, q, e3, show (1 : Int32) = nI 1 from rfl]
    by_cases q1 : S.2 9 i = 0
    · have e2 : dKv S (A (at' + i)) i = 0 := if_pos q1
      simp (decide := true) (disch := omega) only [B_X10_goDay_2, gd_hv s.1, gI_hv s.1, pI_hv s.1, s.R9, s.A9, s.W9, s.R15, s.A15, s.W15, s.R16, s.A16, s.W16, b1_some, b2_some, litI, neg1, nI_add, nI_mul, e1_p1, nI_e0, ib, ib1, ite_not, if_true, if_false, not_true_eq_false, not_false_eq_true, setI_hv, le_lit, show ¬ 48 ≤ i by omega, h'.a9, e1_inj, q1, rA, rB, tail, e2]
    · have lk := m_likeB g h' hi q1
      have e2 : dKv S (A (at' + i)) i = A (at' + i) - (S.2 8 (A (at' + i) / 10) + lks S (S.2 9) i) := if_neg q1
      simp (decide := true) (disch := omega) only [B_X10_goDay_2, gd_hv s.1, gI_hv s.1, pI_hv s.1, s.R8, s.A8, s.W8, s.R9, s.A9, s.W9, s.R15, s.A15, s.W15, s.R16, s.A16, s.W16, b1_some, b2_some, litI, neg1, nI_add, nI_mul, e1_p1, nI_e0, ib, ib1, ite_not, if_true, if_false, not_true_eq_false, not_false_eq_true, setI_hv, le_lit, show ¬ 48 ≤ i by omega, h'.a9, h'.a8, e1_inj, q1, rA, rB, d10, lk, tail, sub_sub_I, fade0]
      by_cases q2 : S.2 8 (A (at' + i) / 10) + lks S (S.2 9) i ≤ A (at' + i)
      · rw [if_pos q2, nI_sub q2, e2]
      · have e3 : dKv S (A (at' + i)) i = 0 := by omega
        rw [if_neg q2, e3])
  have z1 : gA S at' 0 A = A := by
    funext k
    exact if_neg (by omega)
  have z2 : gW S at' 0 B = B := by
    funext k
    exact if_neg (by omega)
  rw [z1, z2] at hm
  refine Eq.trans (b := it (fun rec st => B_X10_goDay_2 M (nI at') (nI at') rec st.1 st.2) FU (hv σ (fz (fz f (M + 12) n A) (M + 13) n B), nI 0)) rfl (hm.trans ?_)
  simp (decide := true) (disch := omega) only [B_X10_goDay_2, litI, le_lit, Nat.le_refl, if_true]
