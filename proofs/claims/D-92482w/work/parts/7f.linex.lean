set_option maxRecDepth 100000
/-! pure law: the component's lines -/
theorem PosX.si {N : Nat} {τ : Hp} {S : St} {p Z k : Nat} {v : Int32} (h : PosX N τ S p) (hz : Z ≠ N + 211) : PosX N (setI τ Z k v) S p := ⟨(hI_ne _ _ (by omega)).trans h.1, (hI_ne _ _ (by omega)).trans h.2.1, (hI_ne _ _ (by omega)).trans h.2.2⟩
theorem PosX.bn {N : Nat} {τ : Hp} {S : St} {p : Nat} (kd : Kd) (h : PosX N τ S p) (hz : N + 211 < hZ τ) : PosX N (born τ kd) S p := ⟨(if_neg (by omega)).trans h.1, (if_neg (by omega)).trans h.2.1, (if_neg (by omega)).trans h.2.2⟩
theorem x_number {N : Nat} {τ : Hp} {S : St} (g : Good S) (h0 : RepX N τ S) {p lo hi : Nat} (hp : p ≤ S.1 19) (ps : PosX N τ S p) (hlo : lo ≤ 99) (hhi : hi ≤ 99) : (nok S p lo hi ∧ ∃ τ', F_X5_number τ (N + 211) (nI lo) (nI hi) = some (.inl (nI (nv S p)), τ') ∧ FrR N τ τ' ∧ PosX N τ' S (isE S p)) ∨ (¬ nok S p lo hi ∧ ∃ τ' a, F_X5_number τ (N + 211) (nI lo) (nI hi) = some (.inr a, τ') ∧ FrR N τ τ' ∧ Flt τ' a (isA S p)) := by
  have lg := g.lg
  obtain ⟨a1, a2, a3, a4⟩ := isA_ok g hp
  obtain ⟨e1', e2, e3, e4, e5, e6⟩ := isE_ok g hp
  have s : SX N τ := h0.1
  obtain ⟨τn, an, n1, n2, n3⟩ := x_need0 h0 ps
  have h : RepX N (hv τ τ.2.1) S := h0
  have p2' : τ.2.1 (N + 211) 3 = nI (isA S p) := ps.2.1
  have p3' : τ.2.1 (N + 211) 4 = nI (isE S p) := ps.2.2
  have l := h.s19
  -- the loop without digits
  have fail : ∀ x4 x5, L_X5_number_54 τ (N + 211) (nI lo) (nI hi) 0 FU (x4, x5) = some (.inr an, τn) := fun x4 x5 => by
    unfold L_X5_number_54
    obtain ⟨m, hm⟩ := it_FU (body := fun rec st => B_X5_number_54 τ (N + 211) (nI lo) (nI hi) 0 rec st.1 st.2) (fun i => (x4, x5)) 0 0 (by omega) (by omega) (fun i _ hi rec => by omega)
    refine Eq.trans hm ?_
    show B_X5_number_54 τ (N + 211) (nI lo) (nI hi) 0 m x4 x5 = _
    unfold B_X5_number_54 F_X5_number_94
    rw [if_pos rfl, if_pos rfl, n1, b2_some]
    rfl
  have e0 : F_X5_number τ (N + 211) (nI lo) (nI hi) = F_X5_number (hv τ τ.2.1) (N + 211) (nI lo) (nI hi) := rfl
  by_cases qn : nmb S p
  · have kp := x_kind g h (i := isA S p) (by omega)
    rw [qn.2.1] at kp
    have kk := (e6 qn.1 (by rw [qn.2.1]; omega)).1
    have nl := nv_lt g hp qn
    obtain ⟨m, hm⟩ := it_FU (body := fun rec st => B_X5_number_54 (hv τ τ.2.1) (N + 211) (nI lo) (nI hi) 1 rec st.1 st.2) (fun k => (nI (nvl (S.2 20) (isA S p) k), nI (isA S p + k))) 0 (isE S p - isA S p) (by omega) (by omega) (fun k _ hk rec => by
      have dd := kd2 ((kk (isA S p + k) (by omega) (by omega)).trans qn.2.1)
      have b := h.a20 (i := isA S p + k) (by omega)
      rw [by_lo _ (by omega)] at b
      show B_X5_number_54 (hv τ τ.2.1) (N + 211) (nI lo) (nI hi) 1 rec (nI (nvl (S.2 20) (isA S p) k)) (nI (isA S p + k)) = rec (nI (10 * nvl (S.2 20) (isA S p) k + (S.2 20 (isA S p + k) - 48)), nI (isA S p + k + 1))
      rw [show 10 * nvl (S.2 20) (isA S p) k + (S.2 20 (isA S p + k) - 48) = 10 * nvl (S.2 20) (isA S p) k + S.2 20 (isA S p + k) - 48 by omega]
      simp (decide := true) (disch := omega) only [B_X5_number_54, gI_hv s.t211, s.R211_5, s.R12, s.A210, b1_some, b2_some, litI, neg1, nI_add, nI_mul, e1_p1, nI_e0, ib, ib1, ite_not, if_true, if_false, not_true_eq_false, not_false_eq_true, setI_hv, le_lit, p3', b, show ¬ isE S p ≤ isA S p + k by omega, nI_sub])
    have lp : L_X5_number_54 (hv τ τ.2.1) (N + 211) (nI lo) (nI hi) 1 FU (nI 0, nI (isA S p)) = F_X5_number_94 (hv τ τ.2.1) (N + 211) (nI lo) (nI hi) 1 (nI (nv S p)) := by
      refine Eq.trans hm ?_
      show B_X5_number_54 (hv τ τ.2.1) (N + 211) (nI lo) (nI hi) 1 m (nI (nv S p)) (nI (isA S p + (isE S p - isA S p))) = _
      rw [show isA S p + (isE S p - isA S p) = isE S p by omega]
      simp (decide := true) (disch := omega) only [B_X5_number_54, gI_hv s.t211, b1_some, b2_some, litI, neg1, nI_add, nI_mul, e1_p1, nI_e0, ib, ib1, ite_not, if_true, if_false, not_true_eq_false, not_false_eq_true, setI_hv, le_lit, p3', Nat.le_refl]
    have lp' : L_X5_number_54 (hv τ τ.2.1) (N + 211) (nI lo) (nI hi) (nI 1) FU (nI 0, nI (isA S p)) = F_X5_number_94 (hv τ τ.2.1) (N + 211) (nI lo) (nI hi) 1 (nI (nv S p)) := lp
    have e1 : F_X5_number τ (N + 211) (nI lo) (nI hi) = F_X5_number_94 τ (N + 211) (nI lo) (nI hi) 1 (nI (nv S p)) := by
      rw [e0]
      have l2 := qn.2.2
      simp (decide := true) (disch := omega) only [F_X5_number, gd_hv s.t211, gI_hv s.t211, s.R211_5, gI_hv s.t0, b1_some, b2_some, litI, neg1, nI_add, nI_mul, e1_p1, nI_e0, ib, ib1, ite_not, if_true, if_false, not_true_eq_false, not_false_eq_true, setI_hv, le_lit, lt_lit, p2', p3', l, kp, nI_sub, show ¬ S.1 19 ≤ isA S p by omega, show ¬ 2 < isE S p - isA S p by omega, lp']
      rfl
    have i1 : F_X0_isIn τ (nI (nv S p)).toInt64 (nI lo).toInt64 (nI hi).toInt64 = some (if inR (nI (nv S p)) lo hi then 1 else 0, τ) := x0_isIn τ _ _ _
    by_cases qr : lo ≤ nv S p ∧ nv S p ≤ hi
    · left
      obtain ⟨τ', t1, t2, t3⟩ := x_token g h0 e2 ps.1
      refine ⟨⟨qn, qr⟩, τ', ?_, t2, t3⟩
      rw [e1]
      unfold F_X5_number_94
      rw [if_neg (by decide), i1, if_pos (inR_of qr.1 qr.2 (by omega)), b2_some, if_neg (by decide), x_need1 s, b2_some]
      show b1 (F_X5_token τ (N + 211)) _ = _
      rw [t1, b1_some]
    · right
      refine ⟨fun z => qr z.2, τn, an, ?_, n2, n3⟩
      have nr : ¬ inR (nI (nv S p)) lo hi := fun z => qr (by
        have z1 := z.1
        have z2 := z.2
        rw [le_lit (by omega) (by omega)] at z1 z2
        exact ⟨z1, z2⟩)
      rw [e1]
      unfold F_X5_number_94
      rw [if_neg (by decide), i1, if_neg nr, b2_some, if_pos rfl, n1, b2_some]
      rfl
  · right
    refine ⟨fun z => qn z.1, τn, an, ?_, n2, n3⟩
    by_cases q1 : isA S p < S.1 19
    · have kp := x_kind g h (i := isA S p) (by omega)
      have kl := kd_le (S.2 20 (isA S p))
      by_cases q2 : kd (S.2 20 (isA S p)) = 2
      · have q3 : ¬ isE S p - isA S p ≤ 2 := fun z => qn ⟨q1, q2, z⟩
        rw [q2] at kp
        have f2 : L_X5_number_54 (hv τ τ.2.1) (N + 211) (nI lo) (nI hi) (nI 0) FU (nI 0, nI (isA S p)) = some (.inr an, τn) := fail _ _
        rw [e0]
        simp (decide := true) (disch := omega) only [F_X5_number, gd_hv s.t211, gI_hv s.t211, s.R211_5, gI_hv s.t0, b1_some, b2_some, litI, neg1, nI_add, nI_mul, e1_p1, nI_e0, ib, ib1, ite_not, if_true, if_false, not_true_eq_false, not_false_eq_true, setI_hv, le_lit, lt_lit, p2', p3', l, kp, nI_sub, show ¬ S.1 19 ≤ isA S p by omega, show 2 < isE S p - isA S p by omega, f2]
      · have f2 : L_X5_number_54 (hv τ τ.2.1) (N + 211) (nI lo) (nI hi) (nI 0) FU (nI 0, nI (isA S p)) = some (.inr an, τn) := fail _ _
        rw [e0]
        simp (decide := true) (disch := omega) only [F_X5_number, gd_hv s.t211, gI_hv s.t211, s.R211_5, gI_hv s.t0, b1_some, b2_some, litI, neg1, nI_add, nI_mul, e1_p1, nI_e0, ib, ib1, ite_not, if_true, if_false, not_true_eq_false, not_false_eq_true, setI_hv, le_lit, eq_lit, p2', p3', l, kp, show ¬ S.1 19 ≤ isA S p by omega, q2, f2]
    · have f2 : L_X5_number_54 (hv τ τ.2.1) (N + 211) (nI lo) (nI hi) (nI 0) FU (nI 0, nI (isA S p)) = some (.inr an, τn) := fail _ _
      rw [e0]
      simp (decide := true) (disch := omega) only [F_X5_number, gd_hv s.t211, gI_hv s.t211, s.R211_5, gI_hv s.t0, b1_some, b2_some, litI, neg1, nI_add, nI_mul, e1_p1, nI_e0, ib, ib1, ite_not, if_true, if_false, not_true_eq_false, not_false_eq_true, setI_hv, le_lit, p2', p3', l, show S.1 19 ≤ isA S p by omega, f2]
/-- a line's cell is made, then its number is read -/
theorem x_bnum {N : Nat} {τ : Hp} {S : St} (g : Good S) (h0 : RepX N τ S) {p lo hi : Nat} (ci : Nat) (hp : p ≤ S.1 19) (ps : PosX N τ S p) (hlo : lo ≤ 99) (hhi : hi ≤ 99) : (nok S p lo hi ∧ ∃ τ', F_X5_number (born τ (.inl ci)) (N + 211) (nI lo) (nI hi) = some (.inl (nI (nv S p)), τ') ∧ FrR N τ τ' ∧ PosX N τ' S (isE S p) ∧ hT τ' (hZ τ) = some (.inl ci) ∧ hZ τ < hZ τ') ∨ (¬ nok S p lo hi ∧ ∃ τ' a, F_X5_number (born τ (.inl ci)) (N + 211) (nI lo) (nI hi) = some (.inr a, τ') ∧ FrR N τ τ' ∧ Flt τ' a (isA S p)) := by
  have hz : N + 271 ≤ hZ τ := h0.2.1
  have b := FrR.bn (N := N) (τ := τ) (.inl ci) (by omega)
  rcases x_number g (h0.frr b) (lo := lo) (hi := hi) hp (ps.bn _ (by omega)) hlo hhi with ⟨q, τ', t1, t2, t3⟩ | ⟨q, τ', a, t1, t2, t3⟩
  · left
    refine ⟨q, τ', t1, b.tr t2, t3, ?_, ?_⟩
    · exact (t2.2.1 (hZ τ) (by show hZ τ < hZ τ + 1; omega) (by omega)).1.trans (if_pos rfl)
    · have := t2.1
      have e : hZ (born τ (.inl ci)) = hZ τ + 1 := rfl
      omega
  · right
    exact ⟨q, τ', a, t1, b.tr t2, t3⟩
theorem txl {α ρ : Type} {x : α} {k : α → Option ρ} {t : Nat → Option ρ} : tx (.inl x) k t = k x := rfl
theorem txr {α ρ : Type} {a : Nat} {k : α → Option ρ} {t : Nat → Option ρ} : tx (.inr a) k t = t a := rfl
theorem up_ee {c : Nat → Nat} {d v i : Nat} (h : i = d) : up c d v i = v := if_pos h
theorem x_rline {N : Nat} {τ : Hp} {S : St} (g : Good S) (h0 : RepX N τ S) {p : Nat} (hp : p ≤ S.1 19) (ps : PosX N τ S p) (at' : Nat) (rd : Nat → Nat) :
    ((lnS S p at' rd).1 = true ∧ ∃ τ' a, F_X5_line τ (N + 211) = some (.inl a, τ') ∧ FrR N τ τ' ∧ hZ τ ≤ a ∧ a < hZ τ' ∧ LnAt τ' a ((lnS S p at' rd).2.2 at') ((lnS S p at' rd).2.2 (at' + 1)) ((lnS S p at' rd).2.2 (at' + 2)) ∧ PosX N τ' S (lnS S p at' rd).2.1 ∧ (lnS S p at' rd).2.1 ≤ S.1 19) ∨
    ((lnS S p at' rd).1 = false ∧ ∃ τ' a, F_X5_line τ (N + 211) = some (.inr a, τ') ∧ FrR N τ τ' ∧ Flt τ' a (lnS S p at' rd).2.1) := by
  have hz : N + 271 ≤ hZ τ := h0.2.1
  have s : SX N τ := h0.1
  have E1 := (isE_ok g hp).2.1
  have n07 : ∀ τ, F_X5_number τ (N + 211) 0 7 = F_X5_number τ (N + 211) (nI 0) (nI 7) := fun _ => rfl
  have n08 : ∀ τ, F_X5_number τ (N + 211) 0 8 = F_X5_number τ (N + 211) (nI 0) (nI 8) := fun _ => rfl
  have n199 : ∀ τ, F_X5_number τ (N + 211) 1 99 = F_X5_number τ (N + 211) (nI 1) (nI 99) := fun _ => rfl
  have n1 : ¬ nI 1 = 0 := by decide
  have n0 : nI 0 = 0 := rfl
  unfold F_X5_line lnS
  rw [gd_at s.t211]
  rcases x_skips g h0 hp ps (w := 0) (by omega) with ⟨w0, τ1, k1, k2, k3⟩ | ⟨w0, k1⟩
  · -- room
    rw [if_pos w0, k1, b2_some, if_neg n1, n07]
    have r1 := h0.frr k2
    have E2 := (isE_ok g E1).2.1
    rcases x_number g r1 (lo := 0) (hi := 7) E1 k3 (by omega) (by omega) with ⟨q, τ2, t1, t2, t3⟩ | ⟨q, τ2, a, t1, t2, t3⟩
    · have r2 := r1.frr t2
      have z2 : hZ τ ≤ hZ τ2 := (k2.tr t2).1
      have e : bnd (num1 S (isE S p) (at' + 1) 0 7 (ln0 at' 0 rd)) (fun p rd => num1 S p (at' + 2) 0 8 rd) = num1 S (isE S (isE S p)) (at' + 2) 0 8 (up (ln0 at' 0 rd) (at' + 1) (nv S (isE S p))) := by
        unfold bnd
        rw [show num1 S (isE S p) (at' + 1) 0 7 (ln0 at' 0 rd) = (true, isE S (isE S p), up (ln0 at' 0 rd) (at' + 1) (nv S (isE S p))) from if_pos q]
        exact if_pos rfl
      rw [e, t1, b2_some]
      rw [txl]
      rw [n08]
      rcases x_bnum g r2 13 (lo := 0) (hi := 8) E2 t3 (by omega) (by omega) with ⟨q', τ4, u1, u2', u3, u4, u5⟩ | ⟨q', τ4, a, u1, u2', u3⟩
      · left
        have e2 : num1 S (isE S (isE S p)) (at' + 2) 0 8 (up (ln0 at' 0 rd) (at' + 1) (nv S (isE S p))) = (true, isE S (isE S (isE S p)), up (up (ln0 at' 0 rd) (at' + 1) (nv S (isE S p))) (at' + 2) (nv S (isE S (isE S p)))) := if_pos q'
        rw [e2, u1, b2_some]
        refine ⟨rfl, setI (setI τ4 (hZ τ2) 0 (nI (nv S (isE S p)))) (hZ τ2) 1 (nI (nv S (isE S (isE S p)))), hZ τ2, ?_, ?_, z2, u5, ?_, ?_, (isE_ok g E2).2.1⟩
        · show b1 (F_X13_init τ4 (hZ τ2) (nI (nv S (isE S p))) (nI (nv S (isE S (isE S p))))) _ = _
          unfold F_X13_init F_X12_init_13
          rw [b1_some, pI_at u4, b1_some, pI_at (show hT (setI τ4 (hZ τ2) 0 (nI (nv S (isE S p)))) (hZ τ2) = some (.inl 13) from u4), b1_some, b1_some]
        · exact ((((k2.tr t2).tr u2').new z2 (by omega))).new z2 (by omega)
        · refine Or.inl ⟨?_, u4, ?_, ?_⟩
          · show up (up (up (up rd at' 0) (at' + 1) 0) (at' + 1) (nv S (isE S p))) (at' + 2) _ at' = 0
            rw [up_n (by omega), up_n (by omega), up_n (by omega), up_e]
          · show hI (setI (setI τ4 (hZ τ2) 0 _) (hZ τ2) 1 _) (hZ τ2) 0 = nI (up (up (ln0 at' 0 rd) (at' + 1) (nv S (isE S p))) (at' + 2) _ (at' + 1))
            rw [hI_ne _ _ (by omega), hI_same, up_n (by omega), up_e]
          · show hI (setI (setI τ4 (hZ τ2) 0 _) (hZ τ2) 1 _) (hZ τ2) 1 = nI (up (up (ln0 at' 0 rd) (at' + 1) (nv S (isE S p))) (at' + 2) _ (at' + 2))
            rw [hI_same, up_e]
        · exact (u3.si (by omega)).si (by omega)
      · right
        have e2 : num1 S (isE S (isE S p)) (at' + 2) 0 8 (up (ln0 at' 0 rd) (at' + 1) (nv S (isE S p))) = (false, isA S (isE S (isE S p)), up (ln0 at' 0 rd) (at' + 1) (nv S (isE S p))) := if_neg q'
        rw [e2, u1, b2_some]
        exact ⟨rfl, τ4, a, rfl, (k2.tr t2).tr u2', u3⟩
    · right
      have e : bnd (num1 S (isE S p) (at' + 1) 0 7 (ln0 at' 0 rd)) (fun p rd => num1 S p (at' + 2) 0 8 rd) = (false, isA S (isE S p), ln0 at' 0 rd) := by
        unfold bnd
        rw [show num1 S (isE S p) (at' + 1) 0 7 (ln0 at' 0 rd) = (false, isA S (isE S p), ln0 at' 0 rd) from if_neg q]
        exact if_neg Bool.false_ne_true
      rw [e, t1, b2_some]
      exact ⟨rfl, τ2, a, rfl, k2.tr t2, t3⟩
  rw [if_neg w0, k1, b2_some, if_pos n0]
  rcases x_skips g h0 hp ps (w := 1) (by omega) with ⟨w1', τ1, k1, k2, k3⟩ | ⟨w1', k1⟩
  · -- again
    rw [if_pos w1', k1, b2_some, if_neg n1, n199]
    have r1 := h0.frr k2
    rcases x_bnum g r1 14 (lo := 1) (hi := 99) E1 k3 (by omega) (by omega) with ⟨q', τ4, u1, u2', u3, u4, u5⟩ | ⟨q', τ4, a, u1, u2', u3⟩
    · left
      have e2 : num1 S (isE S p) (at' + 2) 1 99 (ln0 at' 1 rd) = (true, isE S (isE S p), up (ln0 at' 1 rd) (at' + 2) (nv S (isE S p))) := if_pos q'
      rw [e2, u1, b2_some]
      refine ⟨rfl, setI τ4 (hZ τ1) 0 (nI (nv S (isE S p))), hZ τ1, ?_, ?_, k2.1, u5, ?_, ?_, (isE_ok g E1).2.1⟩
      · show b1 (F_X14_init τ4 (hZ τ1) (nI (nv S (isE S p)))) _ = _
        unfold F_X14_init F_X12_init_14
        rw [b1_some, pI_at u4, b1_some, b1_some]
      · exact (k2.tr u2').new k2.1 (by omega)
      · refine Or.inr (Or.inl ⟨?_, u4, ?_⟩)
        · show up (up (up rd at' 1) (at' + 1) 0) (at' + 2) _ at' = 1
          rw [up_n (by omega), up_n (by omega), up_e]
        · show hI (setI τ4 (hZ τ1) 0 _) (hZ τ1) 0 = nI (up (ln0 at' 1 rd) (at' + 2) _ (at' + 2))
          rw [hI_same, up_e]
      · have := k2.1
        exact u3.si (by omega)
    · right
      have e2 : num1 S (isE S p) (at' + 2) 1 99 (ln0 at' 1 rd) = (false, isA S (isE S p), ln0 at' 1 rd) := if_neg q'
      rw [e2, u1, b2_some]
      exact ⟨rfl, τ4, a, rfl, k2.tr u2', u3⟩
  rw [if_neg w1', k1, b2_some, if_pos n0]
  rcases x_skips g h0 hp ps (w := 2) (by omega) with ⟨w2', τ1, k1, k2, k3⟩ | ⟨w2', k1⟩
  · -- apart
    rw [if_pos w2', k1, b2_some, if_neg n1, n08]
    have r1 := h0.frr k2
    rcases x_bnum g r1 15 (lo := 0) (hi := 8) E1 k3 (by omega) (by omega) with ⟨q', τ4, u1, u2', u3, u4, u5⟩ | ⟨q', τ4, a, u1, u2', u3⟩
    · left
      have e2 : num1 S (isE S p) (at' + 2) 0 8 (ln0 at' 2 rd) = (true, isE S (isE S p), up (ln0 at' 2 rd) (at' + 2) (nv S (isE S p))) := if_pos q'
      rw [e2, u1, b2_some]
      refine ⟨rfl, setI τ4 (hZ τ1) 0 (nI (nv S (isE S p))), hZ τ1, ?_, ?_, k2.1, u5, ?_, ?_, (isE_ok g E1).2.1⟩
      · show b1 (F_X15_init τ4 (hZ τ1) (nI (nv S (isE S p)))) _ = _
        unfold F_X15_init F_X12_init_15
        rw [b1_some, pI_at u4, b1_some, b1_some]
      · exact (k2.tr u2').new k2.1 (by omega)
      · refine Or.inr (Or.inr (Or.inl ⟨?_, u4, ?_⟩))
        · show up (up (up rd at' 2) (at' + 1) 0) (at' + 2) _ at' = 2
          rw [up_n (by omega), up_n (by omega), up_e]
        · show hI (setI τ4 (hZ τ1) 0 _) (hZ τ1) 0 = nI (up (ln0 at' 2 rd) (at' + 2) _ (at' + 2))
          rw [hI_same, up_e]
      · have := k2.1
        exact u3.si (by omega)
    · right
      have e2 : num1 S (isE S p) (at' + 2) 0 8 (ln0 at' 2 rd) = (false, isA S (isE S p), ln0 at' 2 rd) := if_neg q'
      rw [e2, u1, b2_some]
      exact ⟨rfl, τ4, a, rfl, k2.tr u2', u3⟩
  rw [if_neg w2', k1, b2_some, if_pos n0]
  rcases x_skips g h0 hp ps (w := 3) (by omega) with ⟨w3', τ1, k1, k2, k3⟩ | ⟨w3', k1⟩
  · -- walk
    have r1 := h0.frr k2
    rw [if_pos w3', k1, b2_some, show nI 1 = (1 : Int32) from rfl, x_need1 r1.1, b2_some]
    rw [txl]
    rw [n07]
    have E2 := (isE_ok g E1).2.1
    rcases x_number g r1 (lo := 0) (hi := 7) E1 k3 (by omega) (by omega) with ⟨q, τ2, t1, t2, t3⟩ | ⟨q, τ2, a, t1, t2, t3⟩
    · have r2 := r1.frr t2
      have E3 := (isE_ok g E2).2.1
      have e : bnd (num1 S (isE S p) (at' + 1) 0 7 (ln0 at' 3 rd)) (fun p rd => bnd (wrd1 S p 4 rd) (fun p rd => num1 S p (at' + 2) 1 99 rd)) = bnd (wrd1 S (isE S (isE S p)) 4 (up (ln0 at' 3 rd) (at' + 1) (nv S (isE S p)))) (fun p rd => num1 S p (at' + 2) 1 99 rd) := by
        unfold bnd
        rw [show num1 S (isE S p) (at' + 1) 0 7 (ln0 at' 3 rd) = (true, isE S (isE S p), up (ln0 at' 3 rd) (at' + 1) (nv S (isE S p))) from if_pos q]
        exact if_pos rfl
      rw [e, t1, b2_some]
      rw [txl]
      rcases x_skips g r2 E2 t3 (w := 4) (by omega) with ⟨w4, τ3, v1, v2, v3⟩ | ⟨w4, v1⟩
      · have r3 := r2.frr v2
        have z3 : hZ τ ≤ hZ τ3 := ((k2.tr t2).tr v2).1
        have e' : bnd (wrd1 S (isE S (isE S p)) 4 (up (ln0 at' 3 rd) (at' + 1) (nv S (isE S p)))) (fun p rd => num1 S p (at' + 2) 1 99 rd) = num1 S (isE S (isE S (isE S p))) (at' + 2) 1 99 (up (ln0 at' 3 rd) (at' + 1) (nv S (isE S p))) := by
          unfold bnd
          rw [show wrd1 S (isE S (isE S p)) 4 (up (ln0 at' 3 rd) (at' + 1) (nv S (isE S p))) = (true, isE S (isE S (isE S p)), up (ln0 at' 3 rd) (at' + 1) (nv S (isE S p))) from if_pos w4]
          exact if_pos rfl
        rw [e', v1, b2_some, show nI 1 = (1 : Int32) from rfl, x_need1 r3.1, b2_some]
        rw [txl]
        rw [n199]
        rcases x_bnum g r3 16 (lo := 1) (hi := 99) E3 v3 (by omega) (by omega) with ⟨q', τ4, u1, u2', u3, u4, u5⟩ | ⟨q', τ4, a, u1, u2', u3⟩
        · left
          have e2 : num1 S (isE S (isE S (isE S p))) (at' + 2) 1 99 (up (ln0 at' 3 rd) (at' + 1) (nv S (isE S p))) = (true, isE S (isE S (isE S (isE S p))), up (up (ln0 at' 3 rd) (at' + 1) (nv S (isE S p))) (at' + 2) (nv S (isE S (isE S (isE S p))))) := if_pos q'
          rw [e2, u1, b2_some]
          refine ⟨rfl, setI (setI τ4 (hZ τ3) 0 (nI (nv S (isE S p)))) (hZ τ3) 1 (nI (nv S (isE S (isE S (isE S p))))), hZ τ3, ?_, ?_, z3, u5, ?_, ?_, (isE_ok g E3).2.1⟩
          · show b1 (F_X16_init τ4 (hZ τ3) (nI (nv S (isE S p))) (nI (nv S (isE S (isE S (isE S p)))))) _ = _
            unfold F_X16_init F_X12_init_16
            rw [b1_some, pI_at u4, b1_some, pI_at (show hT (setI τ4 (hZ τ3) 0 (nI (nv S (isE S p)))) (hZ τ3) = some (.inl 16) from u4), b1_some, b1_some]
          · exact (((((k2.tr t2).tr v2).tr u2').new z3 (by omega))).new z3 (by omega)
          · refine Or.inr (Or.inr (Or.inr ⟨?_, u4, ?_, ?_⟩))
            · show up (up (up (up rd at' 3) (at' + 1) 0) (at' + 1) (nv S (isE S p))) (at' + 2) _ at' = 3
              rw [up_n (by omega), up_n (by omega), up_n (by omega), up_e]
            · show hI (setI (setI τ4 (hZ τ3) 0 _) (hZ τ3) 1 _) (hZ τ3) 0 = nI (up (up (ln0 at' 3 rd) (at' + 1) (nv S (isE S p))) (at' + 2) _ (at' + 1))
              rw [hI_ne _ _ (by omega), hI_same, up_n (by omega), up_e]
            · show hI (setI (setI τ4 (hZ τ3) 0 _) (hZ τ3) 1 _) (hZ τ3) 1 = nI (up (up (ln0 at' 3 rd) (at' + 1) (nv S (isE S p))) (at' + 2) _ (at' + 2))
              rw [hI_same, up_e]
          · exact (u3.si (by omega)).si (by omega)
        · right
          have e2 : num1 S (isE S (isE S (isE S p))) (at' + 2) 1 99 (up (ln0 at' 3 rd) (at' + 1) (nv S (isE S p))) = (false, isA S (isE S (isE S (isE S p))), up (ln0 at' 3 rd) (at' + 1) (nv S (isE S p))) := if_neg q'
          rw [e2, u1, b2_some]
          exact ⟨rfl, τ4, a, rfl, ((k2.tr t2).tr v2).tr u2', u3⟩
      · right
        have e' : bnd (wrd1 S (isE S (isE S p)) 4 (up (ln0 at' 3 rd) (at' + 1) (nv S (isE S p)))) (fun p rd => num1 S p (at' + 2) 1 99 rd) = (false, isA S (isE S (isE S p)), up (ln0 at' 3 rd) (at' + 1) (nv S (isE S p))) := by
          unfold bnd
          rw [show wrd1 S (isE S (isE S p)) 4 (up (ln0 at' 3 rd) (at' + 1) (nv S (isE S p))) = (false, isA S (isE S (isE S p)), up (ln0 at' 3 rd) (at' + 1) (nv S (isE S p))) from if_neg w4]
          exact if_neg Bool.false_ne_true
        obtain ⟨τn, an, m1, m2, m3⟩ := x_need0 r2 t3
        rw [e', v1, b2_some, n0, m1, b2_some]
        exact ⟨rfl, τn, an, rfl, (k2.tr t2).tr m2, m3⟩
    · right
      have e : bnd (num1 S (isE S p) (at' + 1) 0 7 (ln0 at' 3 rd)) (fun p rd => bnd (wrd1 S p 4 rd) (fun p rd => num1 S p (at' + 2) 1 99 rd)) = (false, isA S (isE S p), ln0 at' 3 rd) := by
        unfold bnd
        rw [show num1 S (isE S p) (at' + 1) 0 7 (ln0 at' 3 rd) = (false, isA S (isE S p), ln0 at' 3 rd) from if_neg q]
        exact if_neg Bool.false_ne_true
      rw [e, t1, b2_some]
      exact ⟨rfl, τ2, a, rfl, k2.tr t2, t3⟩
  -- none of them
  right
  obtain ⟨τn, an, m1, m2, m3⟩ := x_need0 h0 ps
  rw [if_neg w3', k1, b2_some, n0, m1, b2_some]
  exact ⟨rfl, τn, an, rfl, m2, m3⟩
