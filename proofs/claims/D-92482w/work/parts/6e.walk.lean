set_option maxRecDepth 100000
/-! pure law 14: a walk through a room -/
def wby (S : St) (v c : Nat) : Nat := if S.2 9 c = 0 then 0 else (100 - v) * S.1 7 / 100
def wkv (S : St) (v c : Nat) : Nat := v + wby S v c
theorem Good.gn {S : St} (g : Good S) : S.1 7 ≤ 100 := g.2.2.2.1
theorem wby_le {S : St} (g : Good S) {v : Nat} (c : Nat) : wby S v c ≤ 100 - v := by
  unfold wby
  split
  · omega
  · apply Nat.div_le_of_le_mul
    rw [Nat.mul_comm 100]
    exact Nat.mul_le_mul_left _ g.gn
theorem wkv_le {S : St} (g : Good S) {v : Nat} (c : Nat) (h : v ≤ 100) : wkv S v c ≤ 100 := by
  have := wby_le g (v := v) c
  unfold wkv
  omega
def wK (S : St) (r : Nat) (K : Nat → Nat) (j : Nat) : Nat → Nat := fun c => if 6 * r ≤ c ∧ c < 6 * r + j then wkv S (K c) c else K c
theorem HB.walk {S : St} {K G W : Nat → Nat} (g : Good S) (h : HB (S.2 9) K G W) (r j : Nat) : HB (S.2 9) (wK S r K j) G W := fun c hc => by
  have b := h c hc
  refine ⟨b.1, ?_, b.2.2.1, b.2.2.2.1, fun q => ?_, b.2.2.2.2.2⟩
  · unfold wK
    split
    · exact wkv_le g c b.2.1
    · exact b.2.1
  · unfold wK
    have := b.2.2.2.2.1 q
    split
    · unfold wkv wby
      rw [if_pos q, this]
    · exact this
theorem mulb {a b : Nat} (ha : a ≤ 100) (hb : b ≤ 100) : a * b ≤ 10000 := Nat.mul_le_mul ha hb
theorem d100 {v w : Nat} (h : v ≤ 100) (h2 : w ≤ 100) : nI (v * w) / nI 100 = nI (v * w / 100) := pk_div (by have := mulb h h2; omega) (by omega) (by omega)
/-! the component's -/
def wx (H : Nat) (S : St) (K : Nat → Nat) (r : Nat) (f : Nat → Nat → Int32) : Nat → (Nat → Nat → Int32)
  | 0 => f
  | j + 1 => u2 (wx H S K r f j) (H + (2 + 2 * (6 * r + j))) 1 (nI (wkv S (K (6 * r + j)) (6 * r + j)))
theorem wx_off {H : Nat} {S : St} {K : Nat → Nat} {r : Nat} {f : Nat → Nat → Int32} {x k : Nat} : ∀ i, (∀ j, j < i → ¬ (x = H + (2 + 2 * (6 * r + j)) ∧ k = 1)) → wx H S K r f i x k = f x k
  | 0, _ => rfl
  | i + 1, h => (u2_n (h i (by omega))).trans (wx_off i (fun j hj => h j (by omega)))
theorem wx_at {H : Nat} {S : St} {K : Nat → Nat} {r : Nat} {f : Nat → Nat → Int32} (hf : ∀ c, c < 48 → f (H + (2 + 2 * c)) 1 = nI (K c)) : ∀ i c, c < 48 → wx H S K r f i (H + (2 + 2 * c)) 1 = nI (wK S r K i c)
  | 0, c, hc => by
    unfold wK
    rw [if_neg (by omega)]
    exact hf c hc
  | i + 1, c, hc => by
    have ih := wx_at hf (S := S) (r := r) i c hc
    show u2 (wx H S K r f i) (H + (2 + 2 * (6 * r + i))) 1 _ (H + (2 + 2 * c)) 1 = _
    by_cases e : c = 6 * r + i
    · subst e
      rw [u2_e]
      unfold wK
      rw [if_pos (by omega)]
    · rw [u2_n (by omega), ih]
      unfold wK
      by_cases q : 6 * r ≤ c ∧ c < 6 * r + i
      · rw [if_pos q, if_pos (by omega)]
      · rw [if_neg q, if_neg (by omega)]
theorem x_walk' {N H : Nat} {σ : Hp} {f : Nat → Nat → Int32} {S : St} {K G W : Nat → Nat} (g : Good S) (s : SX N σ) (hs : HS N H σ) (hN : N + 12 ≤ H) (hk : LkX N f S) (hd : HD H f (S.2 9) K G W) (hb : HB (S.2 9) K G W) {r : Nat} (hr : r < 8) : F_X1_walk (hv σ f) H (nI r) = some (nI (sumR (fun c => wby S (K c) c) (6 * r) 6), hv σ (wx H S K r f 6)) := by
  unfold F_X1_walk L_X1_walk_7
  rw [hs.D, show nI r * (6 : Int32) = nI (6 * r) from (nI_mul r 6).trans (by rw [Nat.mul_comm])]
  obtain ⟨n, hn⟩ := it_FU (body := fun rec st => B_X1_walk_7 H (nI r) rec st.1 st.2.1 st.2.2) (fun i => (hv σ (wx H S K r f i), nI (sumR (fun c => wby S (K c) c) (6 * r) i), nI (6 * r + i))) 0 6 (by omega) (by omega) (fun i _ hi rec => by
    have b := hb (6 * r + i) (by omega)
    have d := hd (6 * r + i) (by omega)
    have gn := g.gn
    have e0 : wx H S K r f i (H + (2 + 2 * (6 * r + i))) 0 = e1 (S.2 9 (6 * r + i)) := (wx_off i (fun j hj => by omega)).trans d.1
    have e1' : wx H S K r f i (H + (2 + 2 * (6 * r + i))) 1 = nI (K (6 * r + i)) := (wx_off i (fun j hj => by omega)).trans d.2.1
    have e4 : wx H S K r f i N 4 = nI (S.1 7) := (wx_off i (fun j hj => by omega)).trans hk.2.2.1
    have th := hs.there (f := wx H S K r f i) (c := 6 * r + i) (by omega) (by omega : S.2 9 (6 * r + i) < 1000) e0
    show B_X1_walk_7 H (nI r) rec (hv σ (wx H S K r f i)) (nI (sumR (fun c => wby S (K c) c) (6 * r) i)) (nI (6 * r + i)) = rec (hv σ (u2 (wx H S K r f i) (H + (2 + 2 * (6 * r + i))) 1 (nI (K (6 * r + i) + wby S (K (6 * r + i)) (6 * r + i)))), nI (sumR (fun c => wby S (K c) c) (6 * r) i + wby S (K (6 * r + i)) (6 * r + i)), nI (6 * r + i + 1))
    generalize wx H S K r f i = f' at e0 e1' e4 th
    by_cases q : S.2 9 (6 * r + i) = 0
    · have e : wby S (K (6 * r + i)) (6 * r + i) = 0 := if_pos q
      simp (decide := true) (disch := omega) only [B_X1_walk_7, F_X1_walk_56, hs.D, hs.R0, hs.R1, hs.N, hs.C, hs.CD, hs.CI, hs.CW, hs.G, hs.GD, hs.GI, hs.GW, th, b1_some, b2_some, litI, neg1, nI_add, nI_mul, e1_p1, nI_e0, ib, ib1, ite_not, if_true, if_false, not_true_eq_false, not_false_eq_true, setI_hv, le_lit, show ¬ (r + 1) * 6 ≤ 6 * r + i by omega, q, ne_eq, e1', e]
    · have e : wby S (K (6 * r + i)) (6 * r + i) = (100 - K (6 * r + i)) * S.1 7 / 100 := if_neg q
      simp (decide := true) (disch := omega) only [B_X1_walk_7, F_X1_walk_56, hs.D, hs.R0, hs.R1, hs.N, hs.C, hs.CD, hs.CI, hs.CW, hs.G, hs.GD, hs.GI, hs.GW, gd_hv s.t0, gI_hv s.t0, pI_hv s.t0, th, b1_some, b2_some, litI, neg1, nI_add, nI_mul, e1_p1, nI_e0, ib, ib1, ite_not, if_true, if_false, not_true_eq_false, not_false_eq_true, setI_hv, le_lit, eq_lit, show ¬ (r + 1) * 6 ≤ 6 * r + i by omega, q, ne_eq, e1', e4, nI_sub, d100, e])
  refine Eq.trans (b := it (fun rec st => B_X1_walk_7 H (nI r) rec st.1 st.2.1 st.2.2) FU (hv σ (wx H S K r f 0), nI (sumR (fun c => wby S (K c) c) (6 * r) 0), nI (6 * r + 0))) rfl (hn.trans ?_)
  simp (decide := true) (disch := omega) only [B_X1_walk_7, b1_some, b2_some, litI, neg1, nI_add, nI_mul, e1_p1, nI_e0, ib, ib1, ite_not, if_true, if_false, not_true_eq_false, not_false_eq_true, setI_hv, le_lit, show (r + 1) * 6 ≤ 6 * r + 6 by omega]
theorem wx_hd {H : Nat} {f : Nat → Nat → Int32} {S : St} {K G W : Nat → Nat} (hd : HD H f (S.2 9) K G W) (r : Nat) : HD H (wx H S K r f 6) (S.2 9) (wK S r K 6) G W := fun c hc =>
  ⟨(wx_off 6 (fun j hj => by omega)).trans (hd c hc).1, wx_at (fun c hc => (hd c hc).2.1) 6 c hc, (wx_off 6 (fun j hj => by omega)).trans (hd c hc).2.2.1, (wx_off 6 (fun j hj => by omega)).trans (hd c hc).2.2.2⟩
def walkS (r : Nat) (S : St) : St := wA (w2 S 14 r (S.1 0 + 1)) 10 (wK S r (S.2 10) 6)
def oWalk (r : Int32) (S : St) : Int32 × St := if inR r 0 7 then (nI (sumR (fun c => wby S (S.2 10 c) c) (6 * r.toNatClampNeg) 6), walkS r.toNatClampNeg S) else (-2, S)
theorem x_walk (N : Nat) (r : Int32) : OkXf N (fun σ => F_X0_walk σ N r) (oWalk r) := by
  intro σ f S g h
  have s : SX N σ := h.1
  have dy := g.dy
  simp only [F_X0_walk, oWalk, gd_hv s.t0, x0_isRoom, b2_some]
  rcases in_split r 0 7 (by omega) (by omega) with ⟨i, -, hi, rfl⟩ | hk
  case inr => simp (decide := true) (disch := omega) only [b1_some, b2_some, litI, neg1, nI_add, nI_mul, e1_p1, nI_e0, ib, ib1, ite_not, if_true, if_false, not_true_eq_false, not_false_eq_true, setI_hv, hk]; exact ⟨_, rfl, h, fun _ _ _ => rfl⟩
  have qi := eq_true (inR_of (Nat.zero_le i) hi (by omega))
  have h1 : RepX N (hv σ (u2 f (N + 208) i (nI (S.1 0)))) (w2 S 14 i (S.1 0 + 1)) := by
    have := h.wAr (208, 14, 8) (by decide) i (S.1 0 + 1)
    have e : enc 14 (S.1 0 + 1) = nI (S.1 0) := e1_s _
    rw [e] at this
    exact this
  have hd : HD (N + 12) (u2 f (N + 208) i (nI (S.1 0))) (S.2 9) (S.2 10) (S.2 11) (S.2 12) := fun c hc => by
    have d := h.hd c hc
    rw [u2_n (by omega), u2_n (by omega), u2_n (by omega), u2_n (by omega)]
    exact d
  have lk : LkX N (u2 f (N + 208) i (nI (S.1 0))) S := h.lk.cg (fun x k hx => u2_n (by omega))
  have w := x_walk' g s s.h12 (Nat.le_refl _) lk hd g.hb (r := i) (by omega)
  simp (decide := true) (disch := omega) only [gd_hv s.t0, gI_hv s.t0, pI_hv s.t0, s.R7, s.R9, s.A208, s.W208, b1_some, b2_some, litI, neg1, nI_add, nI_mul, e1_p1, nI_e0, ib, ib1, ite_not, if_true, if_false, not_true_eq_false, not_false_eq_true, setI_hv, qi, h.s0, cl_I, w]
  refine ⟨_, rfl, ?_, fun a k ha => (wx_off 6 (fun j hj => by omega)).trans (u2_n (by omega))⟩
  refine h1.hs (fun a k ha => wx_off 6 (fun j hj => ?_)) rfl (fun k hk => wA_n (by omega)) (fun c hc => ?_)
  · have e1 := ha (14 + 2 * (6 * i + j)) (by omega) (by omega)
    omega
  · have d := wx_hd hd i c hc
    unfold walkS
    rw [wA_n (by decide), wA_e, wA_n (by decide), wA_n (by decide), wA_n (by decide), w2_n (by omega), w2_n (by omega), w2_n (by omega), w2_n (by omega)]
    exact ⟨d.1, d.2.1, (wx_off 6 (fun j hj => by omega)).trans ((u2_n (by omega)).trans (h.a13 hc)), d.2.2.1, d.2.2.2⟩
/-! the twin's -/
def wAt (S : St) (r at' j : Nat) (A : Nat → Nat) : Nat → Nat := fun k => if at' + 6 * r ≤ k ∧ k < at' + 6 * r + j then wkv S (A k) (k - at') else A k
theorem wAt_s (S : St) (r at' j : Nat) (A : Nat → Nat) : up (wAt S r at' j A) (at' + (6 * r + j)) (wkv S (A (at' + (6 * r + j))) (6 * r + j)) = wAt S r at' (j + 1) A := by
  funext k
  unfold up wAt
  by_cases q : k = at' + (6 * r + j)
  · rw [if_pos q, if_pos (by omega), q, Nat.add_sub_cancel_left]
  · rw [if_neg q]
    by_cases q2 : at' + 6 * r ≤ k ∧ k < at' + 6 * r + j
    · rw [if_pos q2, if_pos (by omega)]
    · rw [if_neg q2, if_neg (by omega)]
theorem m_goWalk {M : Nat} {σ : Hp} {f : Nat → Nat → Int32} {S : St} (g : Good S) (h : RepM M (hv σ f) S) {n at' r : Nat} {A B : Nat → Nat} (hr : r < 8) (hn : at' + 48 ≤ n) (hn2 : n ≤ 240) (hA : ∀ k, k < n → A k ≤ 100) : F_X10_goWalk (hv σ (fz (fz f (M + 12) n A) (M + 13) n B)) M (nI r) (nI at') = some (nI (sumR (fun c => wby S (A (at' + c)) c) (6 * r) 6), hv σ (fz (fz f (M + 12) n (wAt S r at' 6 A)) (M + 13) n B)) := by
  have s : SM M σ := h.1
  unfold F_X10_goWalk L_X10_goWalk_8
  rw [gd_hv s.1, show (6 : Int32) * nI r = nI (6 * r) from nI_mul 6 r]
  obtain ⟨m, hm⟩ := it_FU (body := fun rec st => B_X10_goWalk_8 M (nI r) (nI at') rec st.1 st.2.1 st.2.2) (fun i => (hv σ (fz (fz f (M + 12) n (wAt S r at' i A)) (M + 13) n B), nI (sumR (fun c => wby S (A (at' + c)) c) (6 * r) i), nI (6 * r + i))) 0 6 (by omega) (by omega) (fun i _ hi rec => by
    have gn := g.gn
    have b := g.cn (c := 6 * r + i) (by omega)
    have h' : RepM M (hv σ (fz (fz f (M + 12) n (wAt S r at' i A)) (M + 13) n B)) S := (h.zz 12 n _ (by omega)).zz 13 n _ (by omega)
    have e : u2 (fz (fz f (M + 12) n (wAt S r at' i A)) (M + 13) n B) (M + 12) (at' + (6 * r + i)) (nI (wkv S (A (at' + (6 * r + i))) (6 * r + i))) = fz (fz f (M + 12) n (wAt S r at' (i + 1) A)) (M + 13) n B := by
      have e1 : u2 (fz (fz f (M + 12) n (wAt S r at' i A)) (M + 13) n B) (M + 12) (at' + (6 * r + i)) (nI (wkv S (A (at' + (6 * r + i))) (6 * r + i))) = fz (u2 (fz f (M + 12) n (wAt S r at' i A)) (M + 12) (at' + (6 * r + i)) (nI (wkv S (A (at' + (6 * r + i))) (6 * r + i)))) (M + 13) n B := fy_u2 (D := fun k => nI (B k)) (by omega)
      rw [e1, fz_up (by omega), wAt_s]
    have rA : fz (fz f (M + 12) n (wAt S r at' i A)) (M + 13) n B (M + 12) (at' + (6 * r + i)) = nI (A (at' + (6 * r + i))) := by
      rw [fz_off (by omega), fz_rd (by omega)]
      unfold wAt
      rw [if_neg (by omega)]
    show B_X10_goWalk_8 M (nI r) (nI at') rec (hv σ (fz (fz f (M + 12) n (wAt S r at' i A)) (M + 13) n B)) (nI (sumR (fun c => wby S (A (at' + c)) c) (6 * r) i)) (nI (6 * r + i)) = rec (hv σ (fz (fz f (M + 12) n (wAt S r at' (i + 1) A)) (M + 13) n B), nI (sumR (fun c => wby S (A (at' + c)) c) (6 * r) i + wby S (A (at' + (6 * r + i))) (6 * r + i)), nI (6 * r + i + 1))
    rw [← e]
    generalize fz (fz f (M + 12) n (wAt S r at' i A)) (M + 13) n B = f' at h' rA
    have bA := hA (at' + (6 * r + i)) (by omega)
    have ew : wkv S (A (at' + (6 * r + i))) (6 * r + i) = A (at' + (6 * r + i)) + wby S (A (at' + (6 * r + i))) (6 * r + i) := rfl
    rw [ew]
    by_cases q : S.2 9 (6 * r + i) = 0
    · have e : wby S (A (at' + (6 * r + i))) (6 * r + i) = 0 := if_pos q
      simp (decide := true) (disch := omega) only [B_X10_goWalk_8, F_X10_goWalk_55, gd_hv s.1, gI_hv s.1, pI_hv s.1, s.R9, s.A9, s.W9, s.R15, s.A15, s.W15, b1_some, b2_some, litI, neg1, nI_add, nI_mul, e1_p1, nI_e0, ib, ib1, ite_not, if_true, if_false, not_true_eq_false, not_false_eq_true, setI_hv, le_lit, show ¬ 6 * r + 6 ≤ 6 * r + i by omega, h'.a9, e1_inj, q, rA, e]
    · have e : wby S (A (at' + (6 * r + i))) (6 * r + i) = (100 - A (at' + (6 * r + i))) * S.1 7 / 100 := if_neg q
      simp (decide := true) (disch := omega) only [B_X10_goWalk_8, F_X10_goWalk_55, gd_hv s.1, gI_hv s.1, pI_hv s.1, s.R9, s.A9, s.W9, s.R15, s.A15, s.W15, b1_some, b2_some, litI, neg1, nI_add, nI_mul, e1_p1, nI_e0, ib, ib1, ite_not, if_true, if_false, not_true_eq_false, not_false_eq_true, setI_hv, le_lit, show ¬ 6 * r + 6 ≤ 6 * r + i by omega, h'.a9, h'.s7, e1_inj, q, rA, nI_sub, d100, e])
  have z1 : wAt S r at' 0 A = A := by
    funext k
    exact if_neg (by omega)
  rw [z1] at hm
  refine Eq.trans (b := it (fun rec st => B_X10_goWalk_8 M (nI r) (nI at') rec st.1 st.2.1 st.2.2) FU (hv σ (fz (fz f (M + 12) n A) (M + 13) n B), nI (sumR (fun c => wby S (A (at' + c)) c) (6 * r) 0), nI (6 * r + 0))) rfl (hm.trans ?_)
  simp (decide := true) (disch := omega) only [B_X10_goWalk_8, b1_some, b2_some, litI, neg1, nI_add, nI_mul, e1_p1, nI_e0, ib, ib1, ite_not, if_true, if_false, not_true_eq_false, not_false_eq_true, setI_hv, le_lit, Nat.le_refl]
theorem fz_same {f : Nat → Nat → Int32} {A n : Nat} {D : Nat → Nat} (h : ∀ k, k < n → f A k = nI (D k)) : fz f A n D = f := by
  funext x k
  unfold fz
  by_cases q : x = A ∧ k < n
  · rw [if_pos q, q.1, h k q.2]
  · rw [if_neg q]
theorem wK_s (S : St) (r j : Nat) (K : Nat → Nat) : up (wK S r K j) (6 * r + j) (wkv S (K (6 * r + j)) (6 * r + j)) = wK S r K (j + 1) := by
  funext k
  unfold up wK
  by_cases q : k = 6 * r + j
  · rw [if_pos q, if_pos (by omega), q]
  · rw [if_neg q]
    by_cases q2 : 6 * r ≤ k ∧ k < 6 * r + j
    · rw [if_pos q2, if_pos (by omega)]
    · rw [if_neg q2, if_neg (by omega)]
theorem m_walk (M : Nat) (r : Int32) : OkMf M (fun σ => F_X10_walk σ M r) (oWalk r) := by
  intro σ f S g h
  have s : SM M σ := h.1
  have dy := g.dy
  simp only [F_X10_walk, oWalk, gd_hv s.1, x10_isRoom, b2_some]
  rcases in_split r 0 7 (by omega) (by omega) with ⟨i, -, hi, rfl⟩ | hk
  case inr => simp (decide := true) (disch := omega) only [b1_some, b2_some, litI, neg1, nI_add, nI_mul, e1_p1, nI_e0, ib, ib1, ite_not, if_true, if_false, not_true_eq_false, not_false_eq_true, setI_hv, hk]; exact ⟨_, rfl, h, fun _ _ _ => rfl⟩
  have qi := eq_true (inR_of (Nat.zero_le i) hi (by omega))
  have w := m_goWalk g h (n := 48) (at' := 0) (r := i) (A := S.2 10) (B := S.2 12) (by omega) (by omega) (by omega) (fun k hk => (g.cn hk).2.1)
  have es : sumR (fun c => wby S (S.2 10 (0 + c)) c) (6 * i) 6 = sumR (fun c => wby S (S.2 10 c) c) (6 * i) 6 := sumR_cg _ 6 (fun k hk => by
    show wby S (S.2 10 (0 + (6 * i + k))) _ = _
    rw [Nat.zero_add])
  rw [es] at w
  have h0 : RepM M (hv σ (fz (fz f (M + 12) 48 (wAt S i 0 6 (S.2 10))) (M + 13) 48 (S.2 12))) S := (h.zz 12 48 _ (by omega)).zz 13 48 _ (by omega)
  have r1 : ∀ j, j < 6 → fz (fz f (M + 12) 48 (wAt S i 0 6 (S.2 10))) (M + 13) 48 (S.2 12) (M + 12) (6 * i + j) = nI (wkv S (S.2 10 (6 * i + j)) (6 * i + j)) := fun j hj => by
    rw [fz_off (by omega), fz_rd (by omega)]
    unfold wAt
    rw [if_pos (by omega)]
    rfl
  have off : ∀ a k, a ≠ M + 12 → a ≠ M + 13 → fz (fz f (M + 12) 48 (wAt S i 0 6 (S.2 10))) (M + 13) 48 (S.2 12) a k = f a k := fun a k h1 h2 => by rw [fz_off h2, fz_off h1]
  generalize fz (fz f (M + 12) 48 (wAt S i 0 6 (S.2 10))) (M + 13) 48 (S.2 12) = F at h0 r1 off w
  generalize hcm : sumR (fun c => wby S (S.2 10 c) c) (6 * i) 6 = came at w
  obtain ⟨m, hm⟩ := it_FU (body := fun rec st => B_X10_walk_26 M (nI i) (nI came) rec st.1 st.2) (fun j => (hv σ (fz F (M + 7) 48 (wK S i (S.2 10) j)), nI (6 * i + j))) 0 6 (by omega) (by omega) (fun j _ hj rec => by
    have e : u2 (fz F (M + 7) 48 (wK S i (S.2 10) j)) (M + 7) (6 * i + j) (nI (wkv S (S.2 10 (6 * i + j)) (6 * i + j))) = fz F (M + 7) 48 (wK S i (S.2 10) (j + 1)) := by rw [fz_up (by omega), wK_s]
    have e2 : fz F (M + 7) 48 (wK S i (S.2 10) j) (M + 12) (6 * i + j) = nI (wkv S (S.2 10 (6 * i + j)) (6 * i + j)) := (fz_off (by omega)).trans (r1 j hj)
    show B_X10_walk_26 M (nI i) (nI came) rec (hv σ (fz F (M + 7) 48 (wK S i (S.2 10) j))) (nI (6 * i + j)) = rec (hv σ (fz F (M + 7) 48 (wK S i (S.2 10) (j + 1))), nI (6 * i + (j + 1)))
    rw [← e]
    simp (decide := true) (disch := omega) only [B_X10_walk_26, gd_hv s.1, gI_hv s.1, pI_hv s.1, s.R10, s.A10, s.W10, s.R15, s.A15, s.W15, b1_some, b2_some, litI, neg1, nI_add, nI_mul, e1_p1, nI_e0, ib, ib1, ite_not, if_true, if_false, not_true_eq_false, not_false_eq_true, setI_hv, le_lit, show ¬ 6 * i + 6 ≤ 6 * i + j by omega, e2]
    rfl)
  have z0 : fz F (M + 7) 48 (wK S i (S.2 10) 0) = F := fz_same (fun k hk => by
    unfold wK
    rw [if_neg (by omega)]
    exact h0.a10 hk)
  have fin : RepM M (hv σ (fz F (M + 7) 48 (wK S i (S.2 10) 6))) (wA S 10 (wK S i (S.2 10) 6)) := h0.fy (10, 7, 48) (by decide) _ _ rfl
  have e26 : L_X10_walk_26 M (nI i) (nI came) FU (hv σ (fz F (M + 7) 48 (wK S i (S.2 10) 0)), nI (6 * i + 0)) = some (nI came, hv σ (u2 (fz F (M + 7) 48 (wK S i (S.2 10) 6)) (M + 11) i (nI (S.1 0)))) := by
    refine hm.trans ?_
    have e0 : fz F (M + 7) 48 (wK S i (S.2 10) 6) M 0 = nI (S.1 0) := fin.s0
    simp (decide := true) (disch := omega) only [B_X10_walk_26, F_X10_walk_55, gd_hv s.1, gI_hv s.1, pI_hv s.1, s.R14, s.A14, s.W14, b1_some, b2_some, litI, neg1, nI_add, nI_mul, e1_p1, nI_e0, ib, ib1, ite_not, if_true, if_false, not_true_eq_false, not_false_eq_true, setI_hv, le_lit, Nat.le_refl, e0]
  rw [z0, Nat.add_zero] at e26
  have lk := m_look g h
  simp (decide := true) (disch := omega) only [b1_some, b2_some, litI, neg1, nI_add, nI_mul, e1_p1, nI_e0, ib, ib1, ite_not, if_true, if_false, not_true_eq_false, not_false_eq_true, setI_hv, qi, cl_I, lk, w, e26, hcm]
  refine ⟨_, rfl, ?_, fun a k ha => by rw [u2_n (by omega), fz_off (by omega), off a k (by omega) (by omega)]⟩
  have e14 : enc 14 (S.1 0 + 1) = nI (S.1 0) := e1_s _
  have r := (h0.set (14, 11, 8) (by decide) i (S.1 0 + 1)).fy (10, 7, 48) (by decide) (wK S i (S.2 10) 6) (u2 (fz F (M + 7) 48 (wK S i (S.2 10) 6)) (M + 11) i (nI (S.1 0))) (by
    show _ = fy (u2 F (M + 11) i (enc 14 (S.1 0 + 1))) (M + 7) 48 (fun k => nI (wK S i (S.2 10) 6 k))
    rw [e14]
    exact fy_u2 (by omega))
  exact r
