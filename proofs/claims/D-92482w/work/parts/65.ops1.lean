set_option maxRecDepth 100000
/-! pure law 5: marks, likeness -/
theorem nx_and (a b : Nat) : nI a &&& nI b = nI (a &&& b) := by
  apply Int32.toBitVec_inj.1
  show BitVec.ofNat 32 a &&& BitVec.ofNat 32 b = BitVec.ofNat 32 (a &&& b)
  apply BitVec.eq_of_getLsbD_eq
  intro i hi
  simp [hi]
def oMarks (t m : Int32) (S : St) : Int32 × St := if inR t 0 23 then (if inR m 0 255 then (nI (S.2 5 t.toNatClampNeg), w2 S 5 t.toNatClampNeg m.toNatClampNeg) else (-3, S)) else (-2, S)
theorem m_marks (M : Nat) (t m : Int32) : OkM M (fun σ => F_X10_marks σ M t m) (oMarks t m) := by
  intro σ S g h
  have s := h.1
  simp only [F_X10_marks, oMarks, gd_at s.1, x10_isThing, x10_inR _ m 0 255 0 255 rfl rfl, b2_some]
  rcases in_split t 0 23 (by omega) (by omega) with ⟨j, -, hj, rfl⟩ | ht
  case inr => simp only [if_neg ht, if00]; exact ⟨σ, rfl, h, FrM.rf⟩
  rcases in_split m 0 255 (by omega) (by omega) with ⟨k, -, hk, rfl⟩ | hm
  case inr => simp only [if_pos (inR_of (Nat.zero_le j) hj (by omega)), if10, if_neg hm, if00]; exact ⟨σ, rfl, h, FrM.rf⟩
  simp only [if_pos (inR_of (Nat.zero_le j) hj (by omega)), if_pos (inR_of (Nat.zero_le k) hk (by omega)), if10, s.r5, b1_some, aI_at s.n5 (show j < 24 by omega) (by decide), sI_at s.n5 (show j < 24 by omega) (by decide), nI_clamp (show j < 2 ^ 31 by omega), nI_clamp (show k < 2 ^ 31 by omega)]
  refine ⟨setI σ (M + 4) j (nI k), ?_, h.set (5, 4, 24) (by decide) j k, FrM.rf.si (by decide)⟩
  rw [h.2.2.2 (5, 4, 24) (by decide) j (by show j < 24; omega)]
  rfl
theorem x_marks (N : Nat) (t m : Int32) : OkX N (fun σ => F_X0_marks σ N t m) (oMarks t m) := by
  intro σ S g h
  have s := h.1
  simp only [F_X0_marks, oMarks, gd_at s.t0, x0_isThing, x0_inR _ m 0 255 0 255 (by decide) (by decide), b2_some]
  rcases in_split t 0 23 (by omega) (by omega) with ⟨j, -, hj, rfl⟩ | ht
  case inr => simp only [if_neg ht, if00]; exact ⟨σ, rfl, h, FrX.rf⟩
  rcases in_split m 0 255 (by omega) (by omega) with ⟨k, -, hk, rfl⟩ | hm
  case inr => simp only [if_pos (inR_of (Nat.zero_le j) hj (by omega)), if10, if_neg hm, if00]; exact ⟨σ, rfl, h, FrX.rf⟩
  simp only [if_pos (inR_of (Nat.zero_le j) hj (by omega)), if_pos (inR_of (Nat.zero_le k) hk (by omega)), if10, s.r2, b1_some, aI_at s.n10 (show j < 24 by omega) (by decide), sI_at s.n10 (show j < 24 by omega) (by decide), nI_clamp (show j < 2 ^ 31 by omega), nI_clamp (show k < 2 ^ 31 by omega)]
  refine ⟨setI σ (N + 10) j (nI k), ?_, h.wAr (10, 5, 24) (by decide) j k, FrX.rf.si (by decide)⟩
  rw [h.2.2.2.1 (10, 5, 24) (by decide) j (by show j < 24; omega)]
  rfl
/-! likeness -/
def pcn (m : Nat) : Nat → Nat
  | 0 => 0
  | i + 1 => pcn m i + m / 2 ^ i % 2
theorem pcn_le (m : Nat) : ∀ i, pcn m i ≤ i
  | 0 => Nat.le_refl _
  | i + 1 => by
    have := pcn_le m i
    show pcn m i + m / 2 ^ i % 2 ≤ i + 1
    omega
def lkn (S : St) (a b : Nat) : Nat := pcn (S.2 5 a &&& S.2 5 b) 8
theorem lkn_le (S : St) (a b : Nat) : lkn S a b ≤ 8 := pcn_le _ 8
theorem lkn_comm (S : St) (a b : Nat) : lkn S a b = lkn S b a := by unfold lkn; rw [Nat.and_comm]
theorem bit_ok : ∀ m, m < 256 → ∀ i, i < 8 → (nI m >>> (nI i &&& 31)) &&& 1 = nI (m / 2 ^ i % 2) := by decide +kernel
theorem bc_ok : ∀ m, m < 256 → (F_J0_bitCount (hp0 0) (nI m)).map (fun z => z.1) = some (nI (pcn m 8)) := by decide +kernel
theorem bc (σ : Hp) {m : Nat} (hm : m < 256) : F_J0_bitCount σ (nI m) = some (nI (pcn m 8), σ) := by
  have h := bc_ok m hm
  unfold F_J0_bitCount at h ⊢
  simp only [Option.map_some, Option.some.injEq] at h
  rw [h]
theorem and_lt {a b : Nat} (h : a < 256) : a &&& b < 256 := Nat.lt_of_le_of_lt Nat.and_le_left h
theorem m_lk {M : Nat} {σ : Hp} {S : St} (g : Good S) (h : RepM M σ S) {a b : Nat} (ha : a < 24) (hb : b < 24) : F_X10_likeness σ M (nI a) (nI b) = some (nI (lkn S a b), σ) := by
  have s := h.1
  simp only [F_X10_likeness, gd_at s.1, s.r5, b1_some, aI_at s.n5 ha (by decide), aI_at s.n5 hb (by decide)]
  have e1 := h.2.2.2 (5, 4, 24) (by decide) a ha
  have e2 := h.2.2.2 (5, 4, 24) (by decide) b hb
  have e1 : hI σ (M + 4) a = nI (S.2 5 a) := e1
  have e2 : hI σ (M + 4) b = nI (S.2 5 b) := e2
  rw [e1, e2, nx_and]
  have hm : S.2 5 a &&& S.2 5 b < 256 := and_lt (g.2.2.2.2.2.2.2.1 a ha)
  unfold lkn
  generalize S.2 5 a &&& S.2 5 b = m at hm
  obtain ⟨n, hn⟩ := it_FU (body := fun rec st => B_X10_likeness_20 σ (nI m) rec st.1 st.2) (fun i => (nI (pcn m i), nI i)) 0 8 (by decide) (by decide) (fun i _ hi rec => by
    simp only [B_X10_likeness_20, litI 8, le_lit (show 8 < 2147483648 by decide) (show i < 2147483648 by omega), if_neg (show ¬ 8 ≤ i by omega), bit_ok m hm i hi, nI_add, nI_1]
    rfl)
  show it (fun rec st => B_X10_likeness_20 σ (nI m) rec st.1 st.2) FU (nI 0, nI 0) = _
  have hn' : it (fun rec st => B_X10_likeness_20 σ (nI m) rec st.1 st.2) FU (nI 0, nI 0) = _ := hn
  rw [hn']
  simp only [B_X10_likeness_20, litI 8, le_lit (show 8 < 2147483648 by decide) (show 8 < 2147483648 by decide), Nat.le_refl, if_true]
theorem x_lk {N : Nat} {σ : Hp} {S : St} (g : Good S) (h : RepX N σ S) {a b : Nat} (ha : a < 24) (hb : b < 24) : F_X0_likeness σ N (nI a) (nI b) = some (nI (lkn S a b), σ) := by
  have s := h.1
  have e1 : hI σ (N + 10) a = nI (S.2 5 a) := h.2.2.2.1 (10, 5, 24) (by decide) a ha
  have e2 : hI σ (N + 10) b = nI (S.2 5 b) := h.2.2.2.1 (10, 5, 24) (by decide) b hb
  simp only [F_X0_likeness, gd_at s.t0, s.r2, b1_some, aI_at s.n10 ha (by decide), aI_at s.n10 hb (by decide), e1, e2, nx_and, bc σ (and_lt (b := S.2 5 b) (g.2.2.2.2.2.2.2.1 a ha)), b2_some]
  rfl
theorem x_isLike {N : Nat} {σ : Hp} {S : St} (g : Good S) (h : RepX N σ S) {a b : Nat} (ha : a < 24) (hb : b < 24) : F_X0_isLike σ N (nI a) (nI b) = some (if S.1 6 ≤ lkn S a b then 1 else 0, σ) := by
  have s := h.1
  have e1 : hI σ N 3 = nI (S.1 6) := h.2.2.1 (3, 6) (by decide)
  have h6 := g.2.2.1
  have hl := lkn_le S a b
  simp only [F_X0_isLike, gd_at s.t0, x_lk g h ha hb, b2_some, gI_at s.t0, b1_some, e1, lt_lit (show lkn S a b < 2147483648 by omega) (show S.1 6 < 2147483648 by omega)]
  by_cases q : S.1 6 ≤ lkn S a b
  · rw [if_neg (by omega), if_pos q]
  · rw [if_pos (by omega), if_neg q]
def oLike (a b : Int32) (S : St) : Int32 × St := if inR a 0 23 ∧ inR b 0 23 then (nI (lkn S a.toNatClampNeg b.toNatClampNeg), S) else (-2, S)
theorem m_like (M : Nat) (a b : Int32) : OkM M (fun σ => F_X10_like σ M a b) (oLike a b) := by
  intro σ S g h
  have s := h.1
  simp only [F_X10_like, oLike, gd_at s.1, x10_isThing, b2_some]
  rcases in_split a 0 23 (by omega) (by omega) with ⟨j, -, hj, rfl⟩ | ha
  case inr => rw [if_neg ha, if00, if_neg (fun q => ha q.1)]; exact ⟨σ, rfl, h, FrM.rf⟩
  rcases in_split b 0 23 (by omega) (by omega) with ⟨k, -, hk, rfl⟩ | hb
  case inr => rw [if_pos (inR_of (Nat.zero_le j) hj (by omega)), if10, if_neg hb, if00, if_neg (fun q => hb q.2)]; exact ⟨σ, rfl, h, FrM.rf⟩
  have q1 := inR_of (Nat.zero_le j) hj (by omega)
  have q2 := inR_of (Nat.zero_le k) hk (by omega)
  rw [if_pos q1, if10, if_pos q2, if10, if_pos ⟨q1, q2⟩, m_lk g h (by omega) (by omega), b2_some, nI_clamp (show j < 2 ^ 31 by omega), nI_clamp (show k < 2 ^ 31 by omega)]
  exact ⟨σ, rfl, h, FrM.rf⟩
theorem x_like (N : Nat) (a b : Int32) : OkX N (fun σ => F_X0_like σ N a b) (oLike a b) := by
  intro σ S g h
  have s := h.1
  simp only [F_X0_like, oLike, gd_at s.t0, x0_isThing, b2_some]
  rcases in_split a 0 23 (by omega) (by omega) with ⟨j, -, hj, rfl⟩ | ha
  case inr => rw [if_neg ha, if00, if_neg (fun q => ha q.1)]; exact ⟨σ, rfl, h, FrX.rf⟩
  rcases in_split b 0 23 (by omega) (by omega) with ⟨k, -, hk, rfl⟩ | hb
  case inr => rw [if_pos (inR_of (Nat.zero_le j) hj (by omega)), if10, if_neg hb, if00, if_neg (fun q => hb q.2)]; exact ⟨σ, rfl, h, FrX.rf⟩
  have q1 := inR_of (Nat.zero_le j) hj (by omega)
  have q2 := inR_of (Nat.zero_le k) hk (by omega)
  rw [if_pos q1, if10, if_pos q2, if10, if_pos ⟨q1, q2⟩, x_lk g h (by omega) (by omega), b2_some, nI_clamp (show j < 2 ^ 31 by omega), nI_clamp (show k < 2 ^ 31 by omega)]
  exact ⟨σ, rfl, h, FrX.rf⟩
