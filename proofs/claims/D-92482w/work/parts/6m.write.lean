set_option maxRecDepth 100000
/-! pure law 22: write -/
def bty (v : Int64) (i : Nat) : Nat := (v >>> ((nI (8 * i)).toInt64 &&& 63)).toBitVec.toNat % 256
theorem bty_lt (v : Int64) (i : Nat) : bty v i < 256 := Nat.mod_lt _ (by omega)
theorem by_m (x : Int64) : (x &&& 255 : Int64).toInt32 = nI (x.toBitVec.toNat % 256) := by
  apply Int32.toBitVec_inj.1
  apply BitVec.eq_of_toNat_eq
  have e : (255 : Nat) = 2 ^ 8 - 1 := by decide
  have e2 : (x &&& 255 : Int64).toBitVec.toNat = x.toBitVec.toNat % 256 := by
    show (x.toBitVec &&& 255#64).toNat = _
    rw [BitVec.toNat_and]
    show x.toBitVec.toNat &&& 255 = _
    rw [e, Nat.and_two_pow_sub_one_eq_mod]
  show _ = (BitVec.ofNat 32 (x.toBitVec.toNat % 256)).toNat
  rw [Int64.toBitVec_toInt32, BitVec.signExtend_eq_setWidth_of_le _ (by decide), BitVec.toNat_setWidth, BitVec.toNat_ofNat, e2]
theorem by_x (x : Int64) : (x.toInt32 : Int32).toInt8.toInt32 = (nI (x.toBitVec.toNat % 256)).toInt8.toInt32 := by
  have : (x.toInt32 : Int32).toInt8 = (nI (x.toBitVec.toNat % 256)).toInt8 := by
    apply Int8.toBitVec_inj.1
    apply BitVec.eq_of_toNat_eq
    rw [Int32.toBitVec_toInt8, BitVec.signExtend_eq_setWidth_of_le _ (by decide), Int64.toBitVec_toInt32, BitVec.signExtend_eq_setWidth_of_le _ (by decide), Int32.toBitVec_toInt8, BitVec.signExtend_eq_setWidth_of_le _ (by decide)]
    show _ = (BitVec.setWidth 8 (BitVec.ofNat 32 (x.toBitVec.toNat % 256))).toNat
    simp only [BitVec.toNat_setWidth, BitVec.toNat_ofNat]
    omega
  rw [this]
theorem RepX.tx {N : Nat} {σ : Hp} {f : Nat → Nat → Int32} {S : St} (h : RepX N (hv σ f) S) (D : Nat → Nat) : RepX N (hv σ (fy f (N + 210) 160 (fun k => (nI (D k)).toInt8.toInt32))) (wA S 20 D) := by
  obtain ⟨g1, g2, hA, hB, hC, hD, hE, hF, hG, L, l1, l2, l3, l4⟩ := h
  have hx3 : ∀ x ∈ xAr, x.1 ≠ 210 ∧ x.2.1 ≠ 20 := by decide
  have ho : ∀ o k, o ≠ 210 → fy f (N + 210) 160 (fun k => (nI (D k)).toInt8.toInt32) (N + o) k = f (N + o) k := fun o k q => fy_off (fun z => q (by omega))
  have h2 : ∀ k, k ≠ 20 → (wA S 20 D).2 k = S.2 k := fun k q => wA_n q
  refine ⟨g1, g2, fun x hx => ?_, fun x hx i hi => ?_, fun a b ha hb => ?_, fun c hc => ?_, fun i hi => ?_, fun p hp => ?_, fun a b ha hb => ?_, L, l1, l2, l3, fun i hi => ?_⟩
  · exact (ho 0 _ (by omega)).trans (hA x hx)
  · rw [h2 _ (hx3 x hx).2]
    exact (ho _ _ (hx3 x hx).1).trans (hB x hx i hi)
  · have e : jn (wA S 20 D) a b = jn S a b := by
      unfold jn
      rw [h2 2 (by omega), h2 3 (by omega)]
      rfl
    rw [e]
    have e2 : hI (hv σ (fy f (N + 210) 160 (fun k => (nI (D k)).toInt8.toInt32))) (N + (2 + a)) b = hI (hv σ f) (N + (2 + a)) b := ho _ _ (by omega)
    rw [e2]
    exact hC a b ha hb
  · rw [h2 9 (by omega), h2 10 (by omega), h2 11 (by omega), h2 12 (by omega), h2 13 (by omega)]
    have d := hD c hc
    exact ⟨(ho _ _ (by omega)).trans d.1, (ho _ _ (by omega)).trans d.2.1, (ho _ _ (by omega)).trans d.2.2.1, (ho _ _ (by omega)).trans d.2.2.2.1, (ho _ _ (by omega)).trans d.2.2.2.2⟩
  · rw [wA_e]
    show fy f (N + 210) 160 (fun k => (nI (D k)).toInt8.toInt32) (N + 210) i = _
    exact fy_rd hi
  · rw [h2 35 (by omega), h2 36 (by omega), h2 37 (by omega)]
    exact ⟨(ho _ _ (by omega)).trans (hF p hp).1, fun k hk => ⟨(ho _ _ (by omega)).trans ((hF p hp).2 k hk).1, (ho _ _ (by omega)).trans ((hF p hp).2 k hk).2⟩⟩
  · rw [h2 38 (by omega)]
    exact (ho _ _ (by omega)).trans (hG a b ha hb)
  · obtain ⟨a, q1, q2, q3, q4⟩ := l4 i hi
    refine ⟨a, q1, q2, q3, ?_⟩
    rw [h2 30 (by omega)]
    unfold LnAt
    have ea : ∀ k, hI (hv σ (fy f (N + 210) 160 (fun k => (nI (D k)).toInt8.toInt32))) a k = hI (hv σ f) a k := fun k => by
      show fy f (N + 210) 160 (fun k => (nI (D k)).toInt8.toInt32) a k = f a k
      exact fy_off (fun z => by omega)
    rw [ea, ea]
    exact q4
def txw (S : St) (v : Int64) (i k : Nat) : Nat := if S.1 19 ≤ k ∧ k < S.1 19 + i then bty v (k - S.1 19) else S.2 20 k
theorem txw_s (S : St) (v : Int64) (i k : Nat) : txw S v (i + 1) k = if k = S.1 19 + i then bty v i else txw S v i k := by
  unfold txw
  by_cases q : k = S.1 19 + i
  · rw [if_pos (by omega), if_pos q, q, Nat.add_sub_cancel_left]
  · rw [if_neg q]
    by_cases q2 : S.1 19 ≤ k ∧ k < S.1 19 + i
    · rw [if_pos q2, if_pos (by omega)]
    · rw [if_neg q2, if_neg (by omega)]
theorem fy_up {f : Nat → Nat → Int32} {A n i : Nat} {v : Int32} {D D' : Nat → Int32} (h : i < n) (hD : ∀ k, D' k = if k = i then v else D k) : u2 (fy f A n D) A i v = fy f A n D' := by
  funext x k
  show (if x = A ∧ k = i then v else if x = A ∧ k < n then D k else f x k) = if x = A ∧ k < n then D' k else f x k
  by_cases q : x = A ∧ k = i
  · rw [if_pos q, if_pos ⟨q.1, by omega⟩, hD, if_pos q.2]
  · rw [if_neg q]
    by_cases q2 : x = A ∧ k < n
    · rw [if_pos q2, if_pos q2, hD, if_neg (fun z => q ⟨q2.1, z⟩)]
    · rw [if_neg q2, if_neg q2]
theorem fy_same {f : Nat → Nat → Int32} {A n : Nat} {D : Nat → Int32} (h : ∀ k, k < n → f A k = D k) : fy f A n D = f := by
  funext x k
  unfold fy
  by_cases q : x = A ∧ k < n
  · rw [if_pos q, q.1, h k q.2]
  · rw [if_neg q]
def oWrite (v : Int64) (n : Int32) (S : St) : Int32 × St := if inR n 1 8 then (if S.1 19 + n.toNatClampNeg ≤ 160 then (nI (S.1 19 + n.toNatClampNeg), w1 (wA S 20 (txw S v n.toNatClampNeg)) 19 (S.1 19 + n.toNatClampNeg)) else (-5, S)) else (-3, S)
theorem by_m' (v : Int64) (i : Nat) : ((v >>> ((nI (8 * i)).toInt64 &&& 63)) &&& 255 : Int64).toInt32 = nI (bty v i) := by_m _
theorem Good.bt {S : St} (g : Good S) : S.1 19 ≤ 160 := g.2.2.2.2.1
theorem m_write (M : Nat) (v : Int64) (n : Int32) : OkMf M (fun σ => F_X10_write σ M v n) (oWrite v n) := by
  intro σ f S g h
  have s : SM M σ := h.1
  have bt := g.bt
  simp only [F_X10_write, oWrite, gd_hv s.1, x10_inR _ n 1 8 1 8 rfl rfl, b2_some]
  rcases in_split n 1 8 (by omega) (by omega) with ⟨i, hi0, hi, rfl⟩ | hk
  case inr => simp (decide := true) (disch := omega) only [b1_some, b2_some, litI, neg1, nI_add, nI_mul, e1_p1, nI_e0, ib, ib1, ite_not, if_true, if_false, not_true_eq_false, not_false_eq_true, setI_hv, hk]; exact ⟨_, rfl, h, fun _ _ _ => rfl⟩
  have qi := eq_true (inR_of hi0 hi (by omega))
  by_cases q : S.1 19 + i ≤ 160
  case neg =>
    simp (decide := true) (disch := omega) only [gd_hv s.1, gI_hv s.1, pI_hv s.1, b1_some, b2_some, litI, neg1, nI_add, nI_mul, e1_p1, nI_e0, ib, ib1, ite_not, if_true, if_false, not_true_eq_false, not_false_eq_true, setI_hv, qi, h.s19, le_lit, q, cl_I]
    exact ⟨_, rfl, h, fun _ _ _ => rfl⟩
  obtain ⟨m, hm⟩ := it_FU (body := fun rec st => B_X10_write_31 M v (nI i) rec st.1 st.2) (fun j => (hv σ (fy f (M + 16) 160 (fun k => nI (txw S v j k))), nI j)) 0 i (by omega) (by omega) (fun j _ hj rec => by
    have e19 : fy f (M + 16) 160 (fun k => nI (txw S v j k)) M 19 = nI (S.1 19) := (fy_off (by omega)).trans h.s19
    have e : u2 (fy f (M + 16) 160 (fun k => nI (txw S v j k))) (M + 16) (S.1 19 + j) (nI (bty v j)) = fy f (M + 16) 160 (fun k => nI (txw S v (j + 1) k)) := fy_up (by omega) (fun k => by
      show nI (txw S v (j + 1) k) = _
      rw [txw_s]
      split <;> rfl)
    show B_X10_write_31 M v (nI i) rec (hv σ (fy f (M + 16) 160 (fun k => nI (txw S v j k)))) (nI j) = rec (hv σ (fy f (M + 16) 160 (fun k => nI (txw S v (j + 1) k))), nI (j + 1))
    rw [← e]
    simp (decide := true) (disch := omega) only [B_X10_write_31, gd_hv s.1, gI_hv s.1, pI_hv s.1, s.R20, s.A20, s.W20, b1_some, b2_some, litI, neg1, nI_add, nI_mul, e1_p1, nI_e0, ib, ib1, ite_not, if_true, if_false, not_true_eq_false, not_false_eq_true, setI_hv, e19, le_lit, show ¬ i ≤ j by omega, by_m'])
  have z0 : fy f (M + 16) 160 (fun k => nI (txw S v 0 k)) = f := fy_same (fun k hk => by
    unfold txw
    rw [if_neg (by omega)]
    exact h.a20 hk)
  have fin := h.fy (20, 16, 160) (by decide) (txw S v i) (fy f (M + 16) 160 (fun k => nI (txw S v i k))) rfl
  have lp : L_X10_write_31 M v (nI i) FU (hv σ (fy f (M + 16) 160 (fun k => nI (txw S v 0 k))), nI 0) = some (nI (S.1 19 + i), hv σ (u2 (fy f (M + 16) 160 (fun k => nI (txw S v i k))) M 19 (nI (S.1 19 + i)))) := by
    refine hm.trans ?_
    have e19 : fy f (M + 16) 160 (fun k => nI (txw S v i k)) M 19 = nI (S.1 19) := (fy_off (by omega)).trans h.s19
    simp (decide := true) (disch := omega) only [B_X10_write_31, F_X10_write_67, gd_hv s.1, gI_hv s.1, pI_hv s.1, b1_some, b2_some, litI, neg1, nI_add, nI_mul, e1_p1, nI_e0, ib, ib1, ite_not, if_true, if_false, not_true_eq_false, not_false_eq_true, setI_hv, le_lit, Nat.le_refl, e19, u2_e]
  rw [z0] at lp
  simp (decide := true) (disch := omega) only [gd_hv s.1, gI_hv s.1, pI_hv s.1, b1_some, b2_some, litI, neg1, nI_add, nI_mul, e1_p1, nI_e0, ib, ib1, ite_not, if_true, if_false, not_true_eq_false, not_false_eq_true, setI_hv, qi, h.s19, le_lit, q, cl_I, lp]
  exact ⟨_, rfl, fin.setS 19 (S.1 19 + i), fun a k ha => (u2_n (by omega)).trans (fy_off (by omega))⟩
theorem by_x' (v : Int64) (i : Nat) : vp_nar .byte (((v >>> ((nI (8 * i)).toInt64 &&& 63) : Int64).toInt32 : Int32).toInt8.toInt32) = (nI (bty v i)).toInt8.toInt32 := (pk_vb _).trans (by_x _)
theorem x_write (N : Nat) (v : Int64) (n : Int32) : OkXf N (fun σ => F_X0_write σ N v n) (oWrite v n) := by
  intro σ f S g h
  have s : SX N σ := h.1
  have bt := g.bt
  simp only [F_X0_write, oWrite, gd_hv s.t0, x0_inR _ n 1 8 1 8 (by decide) (by decide), b2_some]
  rcases in_split n 1 8 (by omega) (by omega) with ⟨i, hi0, hi, rfl⟩ | hk
  case inr => simp (decide := true) (disch := omega) only [b1_some, b2_some, litI, neg1, nI_add, nI_mul, e1_p1, nI_e0, ib, ib1, ite_not, if_true, if_false, not_true_eq_false, not_false_eq_true, setI_hv, hk]; exact ⟨_, rfl, h, fun _ _ _ => rfl⟩
  have qi := eq_true (inR_of hi0 hi (by omega))
  by_cases q : S.1 19 + i ≤ 160
  case neg =>
    simp (decide := true) (disch := omega) only [gd_hv s.t0, gI_hv s.t0, pI_hv s.t0, b1_some, b2_some, litI, neg1, nI_add, nI_mul, e1_p1, nI_e0, ib, ib1, ite_not, if_true, if_false, not_true_eq_false, not_false_eq_true, setI_hv, qi, h.s19, le_lit, q, cl_I]
    exact ⟨_, rfl, h, fun _ _ _ => rfl⟩
  obtain ⟨m, hm⟩ := it_FU (body := fun rec st => B_X0_write_33 N v (nI i) rec st.1 st.2) (fun j => (hv σ (u2 (fy f (N + 210) 160 (fun k => (nI (txw S v j k)).toInt8.toInt32)) N 13 (nI (S.1 19 + j))), nI j)) 0 i (by omega) (by omega) (fun j _ hj rec => by
    have e : u2 (fy f (N + 210) 160 (fun k => (nI (txw S v j k)).toInt8.toInt32)) (N + 210) (S.1 19 + j) ((nI (bty v j)).toInt8.toInt32) = fy f (N + 210) 160 (fun k => (nI (txw S v (j + 1) k)).toInt8.toInt32) := fy_up (by omega) (fun k => by
      show (nI (txw S v (j + 1) k)).toInt8.toInt32 = _
      rw [txw_s]
      split <;> rfl)
    show B_X0_write_33 N v (nI i) rec (hv σ (u2 (fy f (N + 210) 160 (fun k => (nI (txw S v j k)).toInt8.toInt32)) N 13 (nI (S.1 19 + j)))) (nI j) = rec (hv σ (u2 (fy f (N + 210) 160 (fun k => (nI (txw S v (j + 1) k)).toInt8.toInt32)) N 13 (nI (S.1 19 + j + 1))), nI (j + 1))
    rw [← e]
    generalize fy f (N + 210) 160 (fun k => (nI (txw S v j k)).toInt8.toInt32) = F
    have e2 : u2 (u2 (u2 F N 13 (nI (S.1 19 + j))) (N + 210) (S.1 19 + j) ((nI (bty v j)).toInt8.toInt32)) N 13 (nI (S.1 19 + j + 1)) = u2 (u2 F (N + 210) (S.1 19 + j) ((nI (bty v j)).toInt8.toInt32)) N 13 (nI (S.1 19 + j + 1)) := by
      rw [u2_com (A := N) (B := N + 210) (by omega), u2_u2]
    rw [← e2]
    simp (decide := true) (disch := omega) only [B_X0_write_33, gd_hv s.t0, gI_hv s.t0, pI_hv s.t0, s.R12, s.A210, s.W210, b1_some, b2_some, litI, neg1, nI_add, nI_mul, e1_p1, nI_e0, ib, ib1, ite_not, if_true, if_false, not_true_eq_false, not_false_eq_true, setI_hv, u2_e, u2_n, le_lit, show ¬ i ≤ j by omega, by_x'])
  have z0 : u2 (fy f (N + 210) 160 (fun k => (nI (txw S v 0 k)).toInt8.toInt32)) N 13 (nI (S.1 19 + 0)) = f := by
    have e1 : fy f (N + 210) 160 (fun k => (nI (txw S v 0 k)).toInt8.toInt32) = f := fy_same (fun k hk => by
      unfold txw
      rw [if_neg (by omega)]
      exact h.2.2.2.2.2.2.1 k hk)
    rw [e1, Nat.add_zero]
    exact u2_id h.s19
  have lp : L_X0_write_33 N v (nI i) FU (hv σ (u2 (fy f (N + 210) 160 (fun k => (nI (txw S v 0 k)).toInt8.toInt32)) N 13 (nI (S.1 19 + 0))), nI 0) = some (nI (S.1 19 + i), hv σ (u2 (fy f (N + 210) 160 (fun k => (nI (txw S v i k)).toInt8.toInt32)) N 13 (nI (S.1 19 + i)))) := by
    refine hm.trans ?_
    simp (decide := true) (disch := omega) only [B_X0_write_33, gd_hv s.t0, gI_hv s.t0, pI_hv s.t0, b1_some, b2_some, litI, neg1, nI_add, nI_mul, e1_p1, nI_e0, ib, ib1, ite_not, if_true, if_false, not_true_eq_false, not_false_eq_true, setI_hv, le_lit, Nat.le_refl, u2_e]
  rw [z0] at lp
  simp (decide := true) (disch := omega) only [gd_hv s.t0, gI_hv s.t0, pI_hv s.t0, b1_some, b2_some, litI, neg1, nI_add, nI_mul, e1_p1, nI_e0, ib, ib1, ite_not, if_true, if_false, not_true_eq_false, not_false_eq_true, setI_hv, qi, h.s19, le_lit, q, cl_I, lp]
  exact ⟨_, rfl, (h.tx (txw S v i)).wSc (13, 19) (by decide) (by decide) (S.1 19 + i), fun a k ha => (u2_n (by omega)).trans (fy_off (by omega))⟩
