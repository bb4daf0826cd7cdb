set_option maxRecDepth 100000
/-! pure law 32: the things at hand -/
def hdv (x : Int64) (k : Nat) : Nat := (x >>> ((nI (5 * k)).toInt64 &&& 63)).toBitVec.toNat % 32
theorem hdv_lt (x : Int64) (k : Nat) : hdv x k < 32 := Nat.mod_lt _ (by omega)
theorem hd_m (x : Int64) : (x &&& 31 : Int64).toInt32 = nI (x.toBitVec.toNat % 32) := by
  apply Int32.toBitVec_inj.1
  apply BitVec.eq_of_toNat_eq
  have e : (31 : Nat) = 2 ^ 5 - 1 := by decide
  have e2 : (x &&& 31 : Int64).toBitVec.toNat = x.toBitVec.toNat % 32 := by
    show (x.toBitVec &&& 31#64).toNat = _
    rw [BitVec.toNat_and]
    show x.toBitVec.toNat &&& 31 = _
    rw [e, Nat.and_two_pow_sub_one_eq_mod]
  show _ = (BitVec.ofNat 32 (x.toBitVec.toNat % 32)).toNat
  rw [Int64.toBitVec_toInt32, BitVec.signExtend_eq_setWidth_of_le _ (by decide), BitVec.toNat_setWidth, BitVec.toNat_ofNat, e2]
theorem hd_eq (x : Int64) (k : Nat) : ((x >>> ((nI (5 * k)).toInt64 &&& 63)) &&& 31 : Int64).toInt32 = nI (hdv x k) := hd_m _
abbrev thr (n : Nat) (x : Int64) : Prop := ∀ k, k < n → hdv x k ≤ 23
abbrev unq (n : Nat) (c : Nat → Nat) : Prop := ∀ k, k < n → ∀ j, j < k → c j ≠ c k
theorem thr_s (n : Nat) (x : Int64) : thr (n + 1) x ↔ thr n x ∧ hdv x n ≤ 23 := by
  constructor
  · intro h
    exact ⟨fun k hk => h k (by omega), h n (by omega)⟩
  · intro h k hk
    by_cases e : k = n
    · rw [e]; exact h.2
    · exact h.1 k (by omega)
theorem unq_s (n : Nat) (c : Nat → Nat) : unq (n + 1) c ↔ unq n c ∧ ∀ j, j < n → c j ≠ c n := by
  constructor
  · intro h
    exact ⟨fun k hk => h k (by omega), h n (by omega)⟩
  · intro h k hk
    by_cases e : k = n
    · rw [e]; exact h.2
    · exact h.1 k (by omega)
/-! sets of bits -/
def tb (y : Int32) (v : Nat) : Prop := (y >>> (nI v &&& nI 31)) &&& nI 1 = nI 1
theorem and1 (y : Int32) : y &&& nI 1 = nI 0 ∨ y &&& nI 1 = nI 1 := by
  have e : y &&& nI 1 = nI (y.toBitVec.toNat % 2) := by
    apply Int32.toBitVec_inj.1
    apply BitVec.eq_of_toNat_eq
    show (y.toBitVec &&& 1#32).toNat = (BitVec.ofNat 32 (y.toBitVec.toNat % 2)).toNat
    rw [BitVec.toNat_and]
    show y.toBitVec.toNat &&& 1 = (y.toBitVec.toNat % 2) % 2 ^ 32
    rw [show (1 : Nat) = 2 ^ 1 - 1 by decide, Nat.and_two_pow_sub_one_eq_mod]
    omega
  rw [e]
  rcases Nat.mod_two_eq_zero_or_one y.toBitVec.toNat with q | q
  · left; rw [q]
  · right; rw [q]
theorem or_and (a b c : Int32) : (a ||| b) &&& c = (a &&& c) ||| (b &&& c) := by
  apply Int32.toBitVec_inj.1
  show (a.toBitVec ||| b.toBitVec) &&& c.toBitVec = (a.toBitVec &&& c.toBitVec) ||| (b.toBitVec &&& c.toBitVec)
  ext i hi
  simp [Bool.and_or_distrib_right]
theorem tb_1 : ∀ v, v < 24 → ∀ w, w < 24 → ((nI 1 <<< (nI v &&& nI 31)) >>> (nI w &&& nI 31)) &&& nI 1 = if w = v then nI 1 else nI 0 := by decide +kernel
theorem tb_or (y : Int32) {v w : Nat} (hv' : v < 24) (hw : w < 24) : tb (y ||| (nI 1 <<< (nI v &&& nI 31))) w ↔ tb y w ∨ w = v := by
  unfold tb
  rw [Int32.shiftRight_or, or_and, tb_1 v hv' w hw]
  by_cases e : w = v
  · rw [if_pos e]
    rcases and1 (y >>> (nI w &&& nI 31)) with q | q
    · rw [q]
      exact ⟨fun _ => Or.inr e, fun _ => by decide⟩
    · rw [q]
      exact ⟨fun _ => Or.inr e, fun _ => by decide⟩
  · rw [if_neg e]
    rcases and1 (y >>> (nI w &&& nI 31)) with q | q
    · rw [q]
      exact ⟨fun z => absurd z (by decide), fun z => z.elim (fun z => absurd z (by decide)) (fun z => absurd z e)⟩
    · rw [q]
      exact ⟨fun _ => Or.inl rfl, fun _ => by decide⟩
theorem tb_0 : ∀ w, w < 24 → ¬ (((nI 0) >>> (nI w &&& nI 31)) &&& nI 1 = nI 1) := by decide +kernel
theorem m_take {M : Nat} {σ : Hp} {f : Nat → Nat → Int32} (s : SM M σ) {n : Nat} {x : Int64} (hn : n ≤ 8) : ∃ f', F_X10_take (hv σ f) M x (nI n) = some (if thr n x then (if unq n (hdv x) then nI 1 else -3) else -2, hv σ f') ∧ (∀ a k, a ≠ M + 19 → f' a k = f a k) ∧ (thr n x → ∀ k, k < n → f' (M + 19) k = nI (hdv x k)) := by
  unfold F_X10_take L_X10_take_9
  rw [gd_hv s.1]
  obtain ⟨i, hi, h2, h3⟩ := first (P := fun k => ¬ hdv x k ≤ 23) n
  obtain ⟨st, r, ⟨y, z, es, p1, p2⟩, e⟩ := it_invF (body := fun rec st => B_X10_take_9 M x (nI n) rec st.1 st.2.1 st.2.2.1 st.2.2.2) (fun k st => ∃ y z, st = (hv σ (fz f (M + 19) k (hdv x)), y, nI z, nI k) ∧ (∀ v, v < 24 → (tb y v ↔ ∃ j, j < k ∧ hdv x j = v)) ∧ ((z = 0 ∧ unq k (hdv x)) ∨ (z = 1 ∧ ¬ unq k (hdv x)))) 0 i (by omega) (by omega) (fun k st _ hk hq => by
    obtain ⟨y, z, rfl, p1, p2⟩ := hq
    have vk : hdv x k ≤ 23 := Classical.not_not.mp (h2 k hk)
    have p3 := p1 (hdv x k) (by omega)
    have y' : ∀ v, v < 24 → (tb (y ||| (nI 1 <<< (nI (hdv x k) &&& nI 31))) v ↔ ∃ j, j < k + 1 ∧ hdv x j = v) := fun v hv' => by
      rw [tb_or y (by omega) hv', p1 v hv']
      constructor
      · intro q
        rcases q with ⟨j, a1, a2⟩ | q
        · exact ⟨j, by omega, a2⟩
        · exact ⟨k, by omega, q.symm⟩
      · intro ⟨j, a1, a2⟩
        by_cases e : j = k
        · right; rw [← a2, e]
        · left; exact ⟨j, by omega, a2⟩
    have z2 : ∀ rec : Hp × Int32 × Int32 × Int32 → Option (Int32 × Hp), B_X10_take_9 M x (nI n) rec (hv σ (fz f (M + 19) k (hdv x))) y (nI z) (nI k) = rec (hv σ (fz f (M + 19) (k + 1) (hdv x)), y ||| (nI 1 <<< (nI (hdv x k) &&& nI 31)), nI (if unq (k + 1) (hdv x) then 0 else 1), nI (k + 1)) := fun rec => by
      rw [← fz_grow]
      generalize fz f (M + 19) k (hdv x) = F
      rcases p2 with ⟨z0, p2⟩ | ⟨z0, p2⟩
      · subst z0
        by_cases q : tb y (hdv x k)
        · obtain ⟨j, a1, a2⟩ := p3.mp q
          have q' : y >>> (nI (hdv x k) &&& nI 31) &&& nI 1 = nI 1 := q
          rw [if_neg (fun u => ((unq_s k (hdv x)).mp u).2 j a1 a2)]
          simp (decide := true) (disch := omega) only [B_X10_take_9, F_X10_take_69, F_X10_take_74, gd_hv s.1, gI_hv s.1, pI_hv s.1, s.R31, s.A31, s.W31, b1_some, b2_some, litI, neg1, nI_add, nI_mul, e1_p1, nI_e0, ib, ib1, ite_not, if_true, if_false, not_true_eq_false, not_false_eq_true, setI_hv, le_lit, show ¬ n ≤ k by omega, hd_eq, u2_e, vk, q']
        · have q' : ¬ (y >>> (nI (hdv x k) &&& nI 31) &&& nI 1 = nI 1) := q
          rw [if_pos ((unq_s k (hdv x)).mpr ⟨p2, fun j hj e => q (p3.mpr ⟨j, hj, e⟩)⟩)]
          simp (decide := true) (disch := omega) only [B_X10_take_9, F_X10_take_69, F_X10_take_74, gd_hv s.1, gI_hv s.1, pI_hv s.1, s.R31, s.A31, s.W31, b1_some, b2_some, litI, neg1, nI_add, nI_mul, e1_p1, nI_e0, ib, ib1, ite_not, if_true, if_false, not_true_eq_false, not_false_eq_true, setI_hv, le_lit, show ¬ n ≤ k by omega, hd_eq, u2_e, vk, q']
      · subst z0
        rw [if_neg (fun u => p2 ((unq_s k (hdv x)).mp u).1)]
        simp (decide := true) (disch := omega) only [B_X10_take_9, F_X10_take_69, F_X10_take_74, gd_hv s.1, gI_hv s.1, pI_hv s.1, s.R31, s.A31, s.W31, b1_some, b2_some, litI, neg1, nI_add, nI_mul, e1_p1, nI_e0, ib, ib1, ite_not, if_true, if_false, not_true_eq_false, not_false_eq_true, setI_hv, le_lit, show ¬ n ≤ k by omega, hd_eq, u2_e, vk]
    refine ⟨_, ⟨_, (if unq (k + 1) (hdv x) then 0 else 1), rfl, y', ?_⟩, z2⟩
    by_cases u : unq (k + 1) (hdv x)
    · rw [if_pos u]; exact Or.inl ⟨rfl, u⟩
    · rw [if_neg u]; exact Or.inr ⟨rfl, u⟩) (hv σ (fz f (M + 19) 0 (hdv x)), nI 0, nI 0, nI 0) ⟨nI 0, 0, rfl, fun v hv' => ⟨fun q => absurd q (tb_0 v hv'), fun ⟨j, a, _⟩ => absurd a (Nat.not_lt_zero j)⟩, Or.inl ⟨rfl, fun k hk => absurd hk (Nat.not_lt_zero k)⟩⟩
  subst es
  rw [fz_0] at e
  by_cases ei : i = n
  · subst ei
    have t : thr i x := fun k hk => Classical.not_not.mp (h2 k hk)
    rw [if_pos t]
    refine ⟨fz f (M + 19) i (hdv x), e.trans ?_, fun a k ha => fz_off ha, fun _ k hk => fz_rd hk⟩
    rcases p2 with ⟨z0, p2⟩ | ⟨z0, p2⟩
    · subst z0
      rw [if_pos p2]
      simp (decide := true) (disch := omega) only [B_X10_take_9, F_X10_take_96, b1_some, b2_some, litI, neg1, nI_add, nI_mul, e1_p1, nI_e0, ib, ib1, ite_not, if_true, if_false, not_true_eq_false, not_false_eq_true, setI_hv, le_lit, Nat.le_refl]
    · subst z0
      rw [if_neg p2]
      simp (decide := true) (disch := omega) only [B_X10_take_9, F_X10_take_96, b1_some, b2_some, litI, neg1, nI_add, nI_mul, e1_p1, nI_e0, ib, ib1, ite_not, if_true, if_false, not_true_eq_false, not_false_eq_true, setI_hv, le_lit, Nat.le_refl]
  · have q : ¬ hdv x i ≤ 23 := h3.resolve_left ei
    have hl := hdv_lt x i
    rw [if_neg (fun t => q (t i (by omega)))]
    refine ⟨fz f (M + 19) (i + 1) (hdv x), e.trans ?_, fun a k ha => fz_off ha, fun t => absurd (t i (by omega)) q⟩
    rw [← fz_grow]
    simp (decide := true) (disch := omega) only [B_X10_take_9, gd_hv s.1, gI_hv s.1, pI_hv s.1, s.R31, s.A31, s.W31, b1_some, b2_some, litI, neg1, nI_add, nI_mul, e1_p1, nI_e0, ib, ib1, ite_not, if_true, if_false, not_true_eq_false, not_false_eq_true, setI_hv, le_lit, show ¬ n ≤ i by omega, hd_eq, u2_e, q]
theorem x_hand {N : Nat} {σ : Hp} {f : Nat → Nat → Int32} (s : SX N σ) {n lo hi : Nat} {x : Int64} {i : Int32} (hl : lo ≤ n) (hh : n ≤ hi) (h8 : hi ≤ 8) : F_X0_layHand (hv σ f) N x (nI n) (nI lo) (nI hi) i = some (if thr n x then (if unq n (hdv x) ∧ -1 ≤ i then nI 0 else -3) else -2, hv σ (fz f (N + 212) n (hdv x))) := by
  have i1 : F_X0_isIn (hv σ f) (nI n).toInt64 (nI lo).toInt64 (nI hi).toInt64 = some (1, hv σ f) := by
    rw [x0_isIn, if_pos (inR_of hl hh (by omega))]
  unfold F_X0_layHand L_X0_layHand_26
  rw [gd_hv s.t0, i1, b2_some, if_neg (by decide)]
  obtain ⟨m, hm⟩ := it_FU (body := fun rec st => B_X0_layHand_26 N x (nI n) i rec st.1 st.2.1 st.2.2.1 st.2.2.2) (fun k => (hv σ (fz f (N + 212) k (hdv x)), nI (if thr k x then 1 else 0), nI (if unq k (hdv x) then 1 else 0), nI k)) 0 n (by omega) (by omega) (fun k _ hk rec => by
    have hl := hdv_lt x k
    have e0 : fz f (N + 212) (k + 1) (hdv x) (N + 212) k = nI (hdv x k) := fz_rd (by omega)
    have ej : ∀ j, j < k → fz f (N + 212) (k + 1) (hdv x) (N + 212) j = nI (hdv x j) := fun j hj => fz_rd (by omega)
    have lp : ∀ (x7 : Int32), L_X0_layHand_78 rec (hv σ (fz f (N + 212) (k + 1) (hdv x))) N x (nI n) i x7 (nI k) FU (nI (if unq k (hdv x) then 1 else 0), nI 0) = rec (hv σ (fz f (N + 212) (k + 1) (hdv x)), x7, nI (if unq (k + 1) (hdv x) then 1 else 0), nI (k + 1)) := fun x7 => by
      generalize fz f (N + 212) (k + 1) (hdv x) = F at e0 ej
      have dd : ∀ j, Decidable (unq k (hdv x) ∧ ∀ j', j' < j → hdv x j' ≠ hdv x k) := fun j => inferInstance
      obtain ⟨m', hm'⟩ := it_FU (body := fun rec' st => B_X0_layHand_78 rec (hv σ F) N x (nI n) i x7 (nI k) rec' st.1 st.2) (fun j => (nI (if unq k (hdv x) ∧ ∀ j', j' < j → hdv x j' ≠ hdv x k then 1 else 0), nI j)) 0 k (by omega) (by omega) (fun j _ hj rec' => by
        have hl2 := hdv_lt x j
        have ejj := ej j hj
        show B_X0_layHand_78 rec (hv σ F) N x (nI n) i x7 (nI k) rec' (nI (if unq k (hdv x) ∧ ∀ j', j' < j → hdv x j' ≠ hdv x k then 1 else 0)) (nI j) = rec' (nI (if unq k (hdv x) ∧ ∀ j', j' < j + 1 → hdv x j' ≠ hdv x k then 1 else 0), nI (j + 1))
        by_cases q1 : unq k (hdv x) ∧ ∀ j', j' < j → hdv x j' ≠ hdv x k
        · rw [if_pos q1]
          by_cases q2 : hdv x j = hdv x k
          · rw [if_neg (fun u => u.2 j (by omega) q2)]
            simp (decide := true) (disch := omega) only [B_X0_layHand_78, gd_hv s.t0, gI_hv s.t0, pI_hv s.t0, s.R15, s.A212, s.W212, b1_some, b2_some, litI, neg1, nI_add, nI_mul, e1_p1, nI_e0, ib, ib1, ite_not, if_true, if_false, not_true_eq_false, not_false_eq_true, setI_hv, le_lit, eq_lit, show ¬ k ≤ j by omega, ejj, e0, q2]
          · rw [if_pos ⟨q1.1, fun j' hj' => by
              by_cases e : j' = j
              · rw [e]; exact q2
              · exact q1.2 j' (by omega)⟩]
            simp (decide := true) (disch := omega) only [B_X0_layHand_78, gd_hv s.t0, gI_hv s.t0, pI_hv s.t0, s.R15, s.A212, s.W212, b1_some, b2_some, litI, neg1, nI_add, nI_mul, e1_p1, nI_e0, ib, ib1, ite_not, if_true, if_false, not_true_eq_false, not_false_eq_true, setI_hv, le_lit, eq_lit, show ¬ k ≤ j by omega, ejj, e0, q2]
        · rw [if_neg q1, if_neg (fun u => q1 ⟨u.1, fun j' hj' => u.2 j' (by omega)⟩)]
          simp (decide := true) (disch := omega) only [B_X0_layHand_78, b1_some, b2_some, litI, neg1, nI_add, nI_mul, e1_p1, nI_e0, ib, ib1, ite_not, if_true, if_false, not_true_eq_false, not_false_eq_true, setI_hv, le_lit, show ¬ k ≤ j by omega])
      have z1 : ∀ d, d = 0 → (if unq k (hdv x) ∧ ∀ j', j' < d → hdv x j' ≠ hdv x k then 1 else 0) = (if unq k (hdv x) then 1 else 0) := fun d hd => by
        by_cases q : unq k (hdv x)
        · rw [if_pos q, if_pos ⟨q, fun j' hj' => by omega⟩]
        · rw [if_neg q, if_neg (fun u => q u.1)]
      have z2 : (if unq k (hdv x) ∧ ∀ j', j' < k → hdv x j' ≠ hdv x k then 1 else 0) = (if unq (k + 1) (hdv x) then 1 else 0) := by
        by_cases q : unq (k + 1) (hdv x)
        · rw [if_pos q, if_pos ((unq_s k (hdv x)).mp q)]
        · rw [if_neg q, if_neg (fun u => q ((unq_s k (hdv x)).mpr u))]
      rw [z1 0 rfl] at hm'
      refine hm'.trans ?_
      show B_X0_layHand_78 rec (hv σ F) N x (nI n) i x7 (nI k) m' (nI (if unq k (hdv x) ∧ ∀ j', j' < k → hdv x j' ≠ hdv x k then 1 else 0)) (nI k) = _
      rw [z2]
      simp (decide := true) (disch := omega) only [B_X0_layHand_78, b1_some, b2_some, litI, neg1, nI_add, nI_mul, e1_p1, nI_e0, ib, ib1, ite_not, if_true, if_false, not_true_eq_false, not_false_eq_true, setI_hv, le_lit, Nat.le_refl]
    show B_X0_layHand_26 N x (nI n) i rec (hv σ (fz f (N + 212) k (hdv x))) (nI (if thr k x then 1 else 0)) (nI (if unq k (hdv x) then 1 else 0)) (nI k) = rec (hv σ (fz f (N + 212) (k + 1) (hdv x)), nI (if thr (k + 1) x then 1 else 0), nI (if unq (k + 1) (hdv x) then 1 else 0), nI (k + 1))
    have gr := fz_grow f (N + 212) k (hdv x)
    generalize fz f (N + 212) (k + 1) (hdv x) = F1 at e0 ej lp gr
    generalize fz f (N + 212) k (hdv x) = F0 at gr
    subst gr
    generalize (if unq k (hdv x) then 1 else 0) = u0 at lp
    generalize (if unq (k + 1) (hdv x) then 1 else 0) = u1 at lp
    by_cases q1 : thr k x
    · rw [if_pos q1]
      by_cases q2 : hdv x k ≤ 23
      · rw [if_pos ((thr_s k x).mpr ⟨q1, q2⟩)]
        have it' : inR (nI (hdv x k)) 0 23 = True := eq_true (inR_of (Nat.zero_le _) q2 (by omega))
        simp (decide := true) (disch := omega) only [B_X0_layHand_26, gd_hv s.t0, gI_hv s.t0, pI_hv s.t0, s.R15, s.A212, s.W212, b1_some, b2_some, litI, neg1, nI_add, nI_mul, e1_p1, nI_e0, ib, ib1, ite_not, if_true, if_false, not_true_eq_false, not_false_eq_true, setI_hv, le_lit, eq_lit, show ¬ n ≤ k by omega, hd_eq, u2_e, x0_isThing, it', lp]
      · rw [if_neg (fun t => q2 ((thr_s k x).mp t).2)]
        have it' : inR (nI (hdv x k)) 0 23 = False := eq_false (fun z => q2 (by have := z.2; rw [le_lit (by omega) (by omega)] at this; exact this))
        simp (decide := true) (disch := omega) only [B_X0_layHand_26, gd_hv s.t0, gI_hv s.t0, pI_hv s.t0, s.R15, s.A212, s.W212, b1_some, b2_some, litI, neg1, nI_add, nI_mul, e1_p1, nI_e0, ib, ib1, ite_not, if_true, if_false, not_true_eq_false, not_false_eq_true, setI_hv, le_lit, eq_lit, show ¬ n ≤ k by omega, hd_eq, u2_e, x0_isThing, it', lp]
    · rw [if_neg q1, if_neg (fun t => q1 ((thr_s k x).mp t).1)]
      simp (decide := true) (disch := omega) only [B_X0_layHand_26, gd_hv s.t0, gI_hv s.t0, pI_hv s.t0, s.R15, s.A212, s.W212, b1_some, b2_some, litI, neg1, nI_add, nI_mul, e1_p1, nI_e0, ib, ib1, ite_not, if_true, if_false, not_true_eq_false, not_false_eq_true, setI_hv, le_lit, eq_lit, show ¬ n ≤ k by omega, hd_eq, lp])
  rw [fz_0, if_pos (fun k hk => absurd hk (Nat.not_lt_zero k)), if_pos (fun k hk => absurd hk (Nat.not_lt_zero k))] at hm
  refine Eq.trans hm ?_
  show B_X0_layHand_26 N x (nI n) i m (hv σ (fz f (N + 212) n (hdv x))) (nI (if thr n x then 1 else 0)) (nI (if unq n (hdv x) then 1 else 0)) (nI n) = _
  by_cases q1 : thr n x <;> by_cases q2 : unq n (hdv x) <;> by_cases q3 : (-1 : Int32) ≤ i
  · rw [if_pos q1, if_pos q2, if_pos q1, if_pos ⟨q2, q3⟩]
    have q3' : e1 0 ≤ i := q3
    simp (decide := true) (disch := omega) only [B_X0_layHand_26, F_X0_layHand_126, b1_some, b2_some, litI, neg1, nI_add, nI_mul, e1_p1, nI_e0, ib, ib1, ite_not, if_true, if_false, not_true_eq_false, not_false_eq_true, setI_hv, le_lit, Nat.le_refl, q3']
  · rw [if_pos q1, if_pos q2, if_pos q1, if_neg (fun z => q3 z.2)]
    have q3' : ¬ e1 0 ≤ i := q3
    simp (decide := true) (disch := omega) only [B_X0_layHand_26, F_X0_layHand_126, b1_some, b2_some, litI, neg1, nI_add, nI_mul, e1_p1, nI_e0, ib, ib1, ite_not, if_true, if_false, not_true_eq_false, not_false_eq_true, setI_hv, le_lit, Nat.le_refl, q3']
  · rw [if_pos q1, if_neg q2, if_pos q1, if_neg (fun z => q2 z.1)]
    simp (decide := true) (disch := omega) only [B_X0_layHand_26, F_X0_layHand_126, b1_some, b2_some, litI, neg1, nI_add, nI_mul, e1_p1, nI_e0, ib, ib1, ite_not, if_true, if_false, not_true_eq_false, not_false_eq_true, setI_hv, le_lit, Nat.le_refl]
  · rw [if_pos q1, if_neg q2, if_pos q1, if_neg (fun z => q2 z.1)]
    simp (decide := true) (disch := omega) only [B_X0_layHand_26, F_X0_layHand_126, b1_some, b2_some, litI, neg1, nI_add, nI_mul, e1_p1, nI_e0, ib, ib1, ite_not, if_true, if_false, not_true_eq_false, not_false_eq_true, setI_hv, le_lit, Nat.le_refl]
  all_goals
    rw [if_neg q1, if_neg q1]
    simp (decide := true) (disch := omega) only [B_X0_layHand_26, F_X0_layHand_126, b1_some, b2_some, litI, neg1, nI_add, nI_mul, e1_p1, nI_e0, ib, ib1, ite_not, if_true, if_false, not_true_eq_false, not_false_eq_true, setI_hv, le_lit, Nat.le_refl]
