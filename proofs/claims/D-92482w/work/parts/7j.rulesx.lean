set_option maxRecDepth 100000
/-! pure law: rules by the component -/
section LQ
variable {S : St}
theorem num1_q (g : Good S) {p at' lo hi : Nat} {rd : Nat → Nat} (hp : p ≤ S.1 19) : (num1 S p at' lo hi rd).2.1 ≤ S.1 19 := by
  unfold num1
  split
  · exact (isE_ok g hp).2.1
  · exact (isA_ok g hp).2.1
theorem wrd1_q (g : Good S) {p w : Nat} {rd : Nat → Nat} (hp : p ≤ S.1 19) : (wrd1 S p w rd).2.1 ≤ S.1 19 := by
  unfold wrd1
  split
  · exact (isE_ok g hp).2.1
  · exact (isA_ok g hp).2.1
theorem bnd_q {o : Out} {k : Nat → (Nat → Nat) → Out} (h : o.2.1 ≤ S.1 19) (hk : ∀ p rd, p ≤ S.1 19 → (k p rd).2.1 ≤ S.1 19) : (bnd o k).2.1 ≤ S.1 19 := by
  unfold bnd
  split
  · exact hk _ _ h
  · exact h
theorem lnS_q (g : Good S) {p at' : Nat} {rd : Nat → Nat} (hp : p ≤ S.1 19) : (lnS S p at' rd).2.1 ≤ S.1 19 := by
  have E := (isE_ok g hp).2.1
  unfold lnS
  repeat' split
  · exact bnd_q (num1_q g E) (fun p rd h => num1_q g h)
  · exact num1_q g E
  · exact num1_q g E
  · exact bnd_q (num1_q g E) (fun p rd h => bnd_q (wrd1_q g h) (fun p rd h => num1_q g h))
  · exact (isA_ok g hp).2.1
theorem rdS_q (g : Good S) : ∀ f m p rd, p ≤ S.1 19 → (rdS S f m p rd).1 = false → (rdS S f m p rd).2.1 ≤ S.1 19
  | 0, m, p, rd, hp, _ => hp
  | f + 1, m, p, rd, hp, h => by
    have lq := lnS_q g (at' := 3 * m) (rd := rd) hp
    rw [rdS_s] at h ⊢
    by_cases q : (lnS S p (3 * m) rd).1 = true
    · rw [if_pos q] at h ⊢
      unfold tlS at h ⊢
      by_cases q1 : isA S (lnS S p (3 * m) rd).2.1 = S.1 19
      · rw [if_pos q1] at h
        exact absurd h (by exact Bool.noConfusion)
      · rw [if_neg q1] at h ⊢
        by_cases q2 : wd S (lnS S p (3 * m) rd).2.1 5 ∧ m + 1 < 10
        · rw [if_pos q2] at h ⊢
          exact rdS_q g f _ _ _ (isE_ok g lq).2.1 h
        · rw [if_neg q2]
          exact (isA_ok g lq).2.1
    · rw [if_neg q]
      exact lq
end LQ
theorem RepX.rul {N : Nat} {τ : Hp} {S : St} {Z0 m : Nat} {rd : Nat → Nat} (h : RepX N τ S) (ro : Rows N τ Z0 m rd) : RepX N (setI (setI (setR τ N 10 (some Z0)) N 11 (nI m)) N 13 (nI 0)) (w1 (w1 (wA (wA S 28 rd) 30 rd) 29 m) 19 0) := by
  obtain ⟨h1, h2, hA, hB, hC, hD, hE, hF, hG, -⟩ := h
  obtain ⟨r1, r2, r3, r4, r5⟩ := ro
  have hx1 : ∀ x ∈ xFix, x.1 = 0 → x.2.1 ≠ 10 := by decide
  have hx2 : ∀ x ∈ [(12, 1), (110, 1), (211, 5), (224, 5), (227, 5)], x.1 ≠ 0 := by decide
  have hx3 : ∀ x ∈ xAr, x.1 ≠ 0 ∧ x.2.1 ≠ 28 ∧ x.2.1 ≠ 30 := by decide
  have hS : ∀ k, k ≠ 28 → k ≠ 30 → (w1 (w1 (wA (wA S 28 rd) 30 rd) 29 m) 19 0).2 k = S.2 k := fun k a b => by
    rw [w1_2, w1_2, wA_n b, wA_n a]
  have hj : jn (w1 (w1 (wA (wA S 28 rd) 30 rd) 29 m) 19 0) = jn S := by
    funext a b
    unfold jn
    rw [hS 2 (by omega) (by omega), hS 3 (by omega) (by omega)]
    rfl
  have sx : SX N (setR τ N 10 (some Z0)) := ⟨h1.1, fun x hx => (if_neg (fun q => hx1 x hx (by omega) q.2)).trans (h1.2.1 x hx), fun x hx => (if_neg (fun q => hx2 x hx (by omega))).trans (h1.2.2.1 x hx), fun r hr => (if_neg (by omega)).trans (h1.2.2.2.1 r hr), fun r hr => (if_neg (by omega)).trans (h1.2.2.2.2.1 r hr),
    fun p hp => ⟨(if_neg (by omega)).trans (h1.2.2.2.2.2.1 p hp).1, (if_neg (by omega)).trans (h1.2.2.2.2.2.1 p hp).2.1, (if_neg (by omega)).trans (h1.2.2.2.2.2.1 p hp).2.2⟩, fun c hc => ⟨(if_neg (by omega)).trans (h1.2.2.2.2.2.2.1 c hc).1, (if_neg (by omega)).trans (h1.2.2.2.2.2.2.1 c hc).2⟩, fun c hc => ⟨(if_neg (by omega)).trans (h1.2.2.2.2.2.2.2 c hc).1, (if_neg (by omega)).trans (h1.2.2.2.2.2.2.2 c hc).2⟩⟩
  have hA' : RA N (setR τ N 10 (some Z0)) S.1 := hA
  have hB' : RB N (setR τ N 10 (some Z0)) S.2 := hB
  have hC' : RC N (setR τ N 10 (some Z0)) (jn S) := hC
  have hD' : RD N (setR τ N 10 (some Z0)) S.2 := hD
  have hE' : RE N (setR τ N 10 (some Z0)) (S.2 20) := hE
  have hF' : RF N (setR τ N 10 (some Z0)) S.2 := hF
  have hG' : RG N (setR τ N 10 (some Z0)) (S.2 38) := hG
  refine ⟨sx, h2, (hA'.set (11, 29) (by decide) m).set (13, 19) (by decide) 0, ((hB'.ne0 (i := 11) (v := nI m)).ne0 (i := 13) (v := nI 0)).cg (fun x hx i => by rw [hS _ (hx3 x hx).2.1 (hx3 x hx).2.2]), ?_, ((hD'.ne0 (i := 11) (v := nI m)).ne0 (i := 13) (v := nI 0)).cg (fun k a b i => by rw [hS k (by omega) (by omega)]), ?_, ((hF'.ne0 (i := 11) (v := nI m)).ne0 (i := 13) (v := nI 0)).cg (fun k a b i => by rw [hS k (by omega) (by omega)]), ?_, ?_⟩
  · rw [hj]
    exact (hC'.ne0 (i := 11) (v := nI m)).ne0
  · rw [hS 20 (by omega) (by omega)]
    exact (hE'.ne0 (i := 11) (v := nI m)).ne0
  · rw [hS 38 (by omega) (by omega)]
    exact (hG'.ne0 (i := 11) (v := nI m)).ne0
  · have e29 : (w1 (w1 (wA (wA S 28 rd) 30 rd) 29 m) 19 0).1 29 = m := by rw [w1_ne (by omega), w1_eq]
    have e30 : (w1 (w1 (wA (wA S 28 rd) 30 rd) 29 m) 19 0).2 30 = rd := by rw [w1_2, w1_2, wA_e]
    rw [e29, e30]
    refine ⟨Z0, if_pos ⟨rfl, rfl⟩, Or.inr ⟨r3, r4⟩, r2, fun i hi => ?_⟩
    obtain ⟨a, q1, q2, q3, q4, q5⟩ := r5 i hi
    refine ⟨a, q1, q3, (if_neg (by omega)).trans q4, ?_⟩
    have q6 : LnAt (setR τ N 10 (some Z0)) a (rd (3 * i)) (rd (3 * i + 1)) (rd (3 * i + 2)) := q5
    exact (q6.same (SameAt.si (by omega))).same (SameAt.si (by omega))
theorem x_rules (N : Nat) : OkX N (fun σ => F_X0_rules σ N) oRules := by
  intro σ S g h0
  have hz : N + 271 ≤ hZ σ := h0.2.1
  have s := h0.1
  have lg := g.lg
  show ∃ σ', F_X0_rules σ N = _ ∧ _
  unfold F_X0_rules F_X0_fault oRules
  rw [gd_at s.t0, gd_at s.t0, s.r14, b1_some]
  rcases x_read g h0 (S.2 28) with ⟨q, τ', t1, t2, t3, t4, t5⟩ | ⟨q, τ', a, t1, t2, t3⟩
  · have q' : (rdO S).1 = true := q
    have r1 := h0.frb t2
    have s1 := r1.1
    have t4' : hI τ' (N + 211) 1 = nI (rdO S).2.1 := t4
    rw [t1, b2_some, txl, b2_some, if_pos rfl, if_pos q', s1.r14, b1_some, gR_at s1.t211 t5.1, b1_some, pR_at s1.t0, b1_some]
    have t0' : hT (setR τ' N 10 (some (hZ σ))) N = some (.inl 0) := s1.t0
    have r14' : gR 0 14 N (setR τ' N 10 (some (hZ σ))) = some (N + 211) := gR_at t0' ((if_neg (by omega)).trans (s1.2.1 (0, 14, 211) (by decide)))
    have g1' : gI 5 1 (N + 211) (setR τ' N 10 (some (hZ σ))) = some (nI (rdO S).2.1) := (gI_at (show hT (setR τ' N 10 (some (hZ σ))) (N + 211) = some (.inl 5) from s1.t211)).trans (congrArg some t4')
    rw [r14', b1_some, g1', b1_some, pI_at t0', b1_some, pI_at (show hT (setI (setR τ' N 10 (some (hZ σ))) N 11 (nI (rdO S).2.1)) N = some (.inl 0) from s1.t0), b1_some, gI_at (show hT (setI (setI (setR τ' N 10 (some (hZ σ))) N 11 (nI (rdO S).2.1)) N 13 0) N = some (.inl 0) from s1.t0), b1_some]
    refine ⟨setI (setI (setR τ' N 10 (some (hZ σ))) N 11 (nI (rdO S).2.1)) N 13 (nI 0), ?_, r1.rul t5, ?_⟩
    · have e : hI (setI (setI (setR τ' N 10 (some (hZ σ))) N 11 (nI (rdO S).2.1)) N 13 0) N 11 = nI (rdO S).2.1 := by rw [hI_ne _ _ (by omega), hI_same]
      rw [e]
      rfl
    · refine (t2.x (by omega)).tr ⟨fun x hx => ?_, Nat.le_refl _⟩
      have hxN : x ≠ N := by omega
      exact ((SameAt.sr hxN).tr (SameAt.si hxN)).tr (SameAt.si hxN)
  · have q' : (rdO S).1 = false := q
    have qb := rdS_q g 10 0 0 (S.2 28) (Nat.zero_le _) q
    have e : hI τ' a 6 = nI (rdO S).2.1 := t3.2
    have b160 : (rdO S).2.1 ≤ 160 := Nat.le_trans qb lg
    rw [t1, b2_some, txr, gd_at t3.1, gI_at t3.1, b1_some, b2_some, e, if_neg (show ¬ nI (rdO S).2.1 = -1 by rw [nI_m1 (by omega)]; exact id), if_neg (show ¬ (rdO S).1 = true by rw [q']; exact Bool.false_ne_true)]
    exact ⟨τ', rfl, (h0.frb t2).w28 _, t2.x (by omega)⟩
