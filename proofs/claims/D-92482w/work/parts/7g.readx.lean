set_option maxRecDepth 100000
/-! pure law: the component reads all lines -/
theorem SX.row {N : Nat} {τ : Hp} (h : SX N τ) (v : Option Nat) : SX N (setR τ (N + 211) 0 v) := by
  have hx1 : ∀ x ∈ xFix, x.1 ≠ 211 := by decide
  have hx2 : ∀ x ∈ [(12, 1), (110, 1), (211, 5), (224, 5), (227, 5)], x.2 ≠ 0 := by decide
  exact ⟨h.1, fun x hx => (if_neg (fun q => hx1 x hx (by omega))).trans (h.2.1 x hx), fun x hx => (if_neg (fun q => hx2 x hx q.2)).trans (h.2.2.1 x hx), fun r hr => (if_neg (by omega)).trans (h.2.2.2.1 r hr), fun r hr => (if_neg (by omega)).trans (h.2.2.2.2.1 r hr),
    fun p hp => ⟨(if_neg (by omega)).trans (h.2.2.2.2.2.1 p hp).1, (if_neg (by omega)).trans (h.2.2.2.2.2.1 p hp).2.1, (if_neg (by omega)).trans (h.2.2.2.2.2.1 p hp).2.2⟩, fun c hc => ⟨(if_neg (by omega)).trans (h.2.2.2.2.2.2.1 c hc).1, (if_neg (by omega)).trans (h.2.2.2.2.2.2.1 c hc).2⟩, fun c hc => ⟨(if_neg (by omega)).trans (h.2.2.2.2.2.2.2 c hc).1, (if_neg (by omega)).trans (h.2.2.2.2.2.2.2 c hc).2⟩⟩
theorem RepX.row {N : Nat} {τ : Hp} {S : St} (h : RepX N τ S) (v : Option Nat) : RepX N (setR τ (N + 211) 0 v) S := by
  obtain ⟨h1, h2, hA, hB, hC, hD, hE, hF, hG, L, l1, l2, l3, l4⟩ := h
  refine ⟨h1.row v, h2, hA, hB, hC, hD, hE, hF, hG, L, (if_neg (by omega)).trans l1, l2, l3, fun i hi => ?_⟩
  obtain ⟨a, g1, g2, g3, g4⟩ := l4 i hi
  exact ⟨a, g1, g2, (if_neg (by omega)).trans g3, g4⟩
/-- all that was there stands, but the reader's own -/
def FrB (N : Nat) (τ τ' : Hp) : Prop := hZ τ ≤ hZ τ' ∧ (∀ a, a < hZ τ → a ≠ N + 211 → SameAt τ τ' a) ∧ hT τ' (N + 211) = hT τ (N + 211) ∧ (∀ k, k ≠ 0 → hR τ' (N + 211) k = hR τ (N + 211) k) ∧ ∀ k, hL τ' (N + 211) k = hL τ (N + 211) k
theorem FrB.frr {N : Nat} {τ τ1 τ2 : Hp} (h : FrB N τ τ1) (h' : FrR N τ1 τ2) : FrB N τ τ2 := ⟨Nat.le_trans h.1 h'.1, fun a ha hn => (h.2.1 a ha hn).tr (h'.2.1 a (Nat.lt_of_lt_of_le ha h.1) hn), h'.2.2.1.trans h.2.2.1, fun k hk => (h'.2.2.2.1 k).trans (h.2.2.2.1 k hk), fun k => (h'.2.2.2.2.1 k).trans (h.2.2.2.2 k)⟩
theorem FrB.si {N : Nat} {τ τ1 : Hp} (h : FrB N τ τ1) (k : Nat) (v : Int32) : FrB N τ (setI τ1 (N + 211) k v) := ⟨h.1, fun a ha hn => (h.2.1 a ha hn).tr (SameAt.si hn), h.2.2.1, h.2.2.2.1, h.2.2.2.2⟩
theorem FrB.sr {N : Nat} {τ τ1 : Hp} (h : FrB N τ τ1) {Z k : Nat} {v : Option Nat} (hz : hZ τ ≤ Z) (hN : N + 211 < hZ τ) : FrB N τ (setR τ1 Z k v) := ⟨h.1, fun a ha hn => (h.2.1 a ha hn).tr (SameAt.sr (by omega)), h.2.2.1, fun j hj => (if_neg (by omega)).trans (h.2.2.2.1 j hj), h.2.2.2.2⟩
theorem FrB.x {N : Nat} {τ τ' : Hp} (h : FrB N τ τ') (hN : N + 211 < hZ τ) : FrX N τ τ' := ⟨fun a ha => h.2.1 a (by omega) (by omega), h.1⟩
theorem RepX.frb {N : Nat} {τ τ' : Hp} {S : St} (h : RepX N τ S) (hf : FrB N τ τ') : RepX N τ' S := by
  have h0 : RepX N (hv τ τ.2.1) S := h
  have h1 : RepX N (hv τ (fun a k => if a = N + 211 then hI τ' a k else hI τ a k)) S := h0.sx (fun a k ha => if_neg (ha 211 (by omega)))
  refine (h1.row (hR τ' (N + 211) 0)).mono (fun a ha => ?_) hf.1
  have ha' : a < hZ τ := ha
  by_cases q : a = N + 211
  · rw [q]
    refine ⟨hf.2.2.1, fun k => ?_, fun k => ?_, hf.2.2.2.2⟩
    · show hI τ' (N + 211) k = if N + 211 = N + 211 then hI τ' (N + 211) k else hI τ (N + 211) k
      rw [if_pos rfl]
    · rw [hR_setR]
      by_cases z : k = 0
      · rw [if_pos ⟨rfl, z⟩, z]
      · rw [if_neg (fun y => z y.2)]
        exact hf.2.2.2.1 k z
  · have s := hf.2.1 a ha' q
    refine ⟨s.1, fun k => ?_, fun k => ?_, s.2.2.2⟩
    · show hI τ' a k = if a = N + 211 then hI τ' a k else hI τ a k
      rw [if_neg q]
      exact s.2.1 k
    · rw [hR_setR, if_neg (fun y => q y.1)]
      exact s.2.2.1 k
theorem LnAt.same {τ τ' : Hp} {a s r n : Nat} (h : LnAt τ a s r n) (e : SameAt τ τ' a) : LnAt τ' a s r n := by
  unfold LnAt at *
  rw [e.1, e.2.1, e.2.1]
  exact h
def Rows (N : Nat) (τ : Hp) (Z0 m : Nat) (rd : Nat → Nat) : Prop := hR τ (N + 211) 0 = some Z0 ∧ hT τ Z0 = some (.inr (4, 10)) ∧ N + 271 ≤ Z0 ∧ Z0 < hZ τ ∧ ∀ i, i < m → ∃ a, N + 271 ≤ a ∧ a ≠ Z0 ∧ a < hZ τ ∧ hR τ Z0 i = some a ∧ LnAt τ a (rd (3 * i)) (rd (3 * i + 1)) (rd (3 * i + 2))
theorem Rows.frr {N : Nat} {τ τ' : Hp} {Z0 m : Nat} {rd : Nat → Nat} (h : Rows N τ Z0 m rd) (hf : FrR N τ τ') : Rows N τ' Z0 m rd := by
  obtain ⟨r1, r2, r3, r4, r5⟩ := h
  have s0 := hf.2.1 Z0 r4 (by omega)
  refine ⟨(hf.2.2.2.1 0).trans r1, s0.1.trans r2, r3, Nat.lt_of_lt_of_le r4 hf.1, fun i hi => ?_⟩
  obtain ⟨a, q1, q2, q3, q4, q5⟩ := r5 i hi
  exact ⟨a, q1, q2, Nat.lt_of_lt_of_le q3 hf.1, (s0.2.2.1 i).trans q4, q5.same (hf.2.1 a q3 (by omega))⟩
theorem Rows.si {N : Nat} {τ : Hp} {Z0 m k : Nat} {v : Int32} {rd : Nat → Nat} (h : Rows N τ Z0 m rd) : Rows N (setI τ (N + 211) k v) Z0 m rd := by
  obtain ⟨r1, r2, r3, r4, r5⟩ := h
  refine ⟨r1, r2, r3, r4, fun i hi => ?_⟩
  obtain ⟨a, q1, q2, q3, q4, q5⟩ := r5 i hi
  exact ⟨a, q1, q2, q3, q4, q5.same (SameAt.si (by omega))⟩
theorem Rows.cg {N : Nat} {τ : Hp} {Z0 m : Nat} {rd rd' : Nat → Nat} (h : Rows N τ Z0 m rd) (e : ∀ i, i < 3 * m → rd' i = rd i) : Rows N τ Z0 m rd' := by
  obtain ⟨r1, r2, r3, r4, r5⟩ := h
  refine ⟨r1, r2, r3, r4, fun i hi => ?_⟩
  obtain ⟨a, q1, q2, q3, q4, q5⟩ := r5 i hi
  rw [e _ (by omega), e _ (by omega), e _ (by omega)]
  exact ⟨a, q1, q2, q3, q4, q5⟩
theorem Rows.add {N : Nat} {τ : Hp} {Z0 m a : Nat} {rd : Nat → Nat} (h : Rows N τ Z0 m rd) (ha : N + 271 ≤ a) (hn : a ≠ Z0) (hz : a < hZ τ) (hl : LnAt τ a (rd (3 * m)) (rd (3 * m + 1)) (rd (3 * m + 2))) : Rows N (setR τ Z0 m (some a)) Z0 (m + 1) rd := by
  obtain ⟨r1, r2, r3, r4, r5⟩ := h
  refine ⟨(if_neg (by omega)).trans r1, r2, r3, r4, fun i hi => ?_⟩
  by_cases e : i = m
  · subst e
    exact ⟨a, ha, hn, hz, if_pos ⟨rfl, rfl⟩, hl⟩
  · obtain ⟨b, q1, q2, q3, q4, q5⟩ := r5 i (by omega)
    exact ⟨b, q1, q2, q3, (if_neg (fun z => e z.2)).trans q4, q5⟩
/-- the row is left alone before its place -/
theorem lnS_lo (S : St) (p at' : Nat) (rd : Nat → Nat) {i : Nat} (hi : i < at') : (lnS S p at' rd).2.2 i = rd i := by
  have l0 : ∀ k, ln0 at' k rd i = rd i := fun k => by
    unfold ln0
    rw [up_n (by omega), up_n (by omega)]
  have n1 : ∀ p l1 h1 rd' k, (∀ j, j < at' → rd' j = rd j) → (num1 S p (at' + k) l1 h1 rd').2.2 i = rd i := fun p l1 h1 rd' k h => by
    unfold num1
    split
    · show up rd' (at' + k) _ i = _
      rw [up_n (by omega)]
      exact h i hi
    · exact h i hi
  have n1' : ∀ p lo hi rd' k, (∀ j, j < at' → rd' j = rd j) → ∀ j, j < at' → (num1 S p (at' + k) lo hi rd').2.2 j = rd j := fun p lo hi rd' k h j hj => by
    unfold num1
    split
    · show up rd' (at' + k) _ j = _
      rw [up_n (by omega)]
      exact h j hj
    · exact h j hj
  have l0' : ∀ k j, j < at' → ln0 at' k rd j = rd j := fun k j hj => by
    unfold ln0
    rw [up_n (by omega), up_n (by omega)]
  unfold lnS
  repeat' split
  · unfold bnd
    split
    · exact n1 _ _ _ _ _ (n1' _ _ _ _ _ (l0' 0))
    · exact n1 _ _ _ _ _ (l0' 0)
  · exact n1 _ _ _ _ _ (l0' 1)
  · exact n1 _ _ _ _ _ (l0' 2)
  · unfold bnd
    split
    · have w : ∀ j, j < at' → (wrd1 S (num1 S (isE S p) (at' + 1) 0 7 (ln0 at' 3 rd)).2.1 4 (num1 S (isE S p) (at' + 1) 0 7 (ln0 at' 3 rd)).2.2).2.2 j = rd j := fun j hj => by
        unfold wrd1
        split
        · exact n1' _ _ _ _ _ (l0' 3) j hj
        · exact n1' _ _ _ _ _ (l0' 3) j hj
      show (bnd (wrd1 S (num1 S (isE S p) (at' + 1) 0 7 (ln0 at' 3 rd)).2.1 4 (num1 S (isE S p) (at' + 1) 0 7 (ln0 at' 3 rd)).2.2) (fun p rd => num1 S p (at' + 2) 1 99 rd)).2.2 i = rd i
      unfold bnd
      split
      · exact n1 _ _ _ _ _ w
      · exact w i hi
    · exact n1 _ _ _ _ _ (l0' 3)
  · exact l0 _
def RSx (N : Nat) (τ0 : Hp) (S : St) (Z0 : Nat) (τ : Hp) (m p : Nat) (rd : Nat → Nat) : Prop := FrB N τ0 τ ∧ hZ τ0 ≤ Z0 ∧ PosX N τ S p ∧ p ≤ S.1 19 ∧ hI τ (N + 211) 1 = nI m ∧ Rows N τ Z0 m rd
/-- what comes after a line -/
def tlS (S : St) (f m p : Nat) (rd : Nat → Nat) : Out := if isA S p = S.1 19 then (true, m, rd) else if wd S p 5 ∧ m < 10 then rdS S f m (isE S p) rd else (false, isA S p, rd)
theorem rdS_s (S : St) (f m p : Nat) (rd : Nat → Nat) : rdS S (f + 1) m p rd = if (lnS S p (3 * m) rd).1 = true then tlS S f (m + 1) (lnS S p (3 * m) rd).2.1 (lnS S p (3 * m) rd).2.2 else lnS S p (3 * m) rd := rfl
def EndX (N : Nat) (τ0 : Hp) (Z0 : Nat) (x : Option ((Unit ⊕ Nat) × Hp)) (o : Out) : Prop := (o.1 = true ∧ ∃ τ', x = some (.inl (), τ') ∧ FrB N τ0 τ' ∧ hZ τ0 ≤ Z0 ∧ hI τ' (N + 211) 1 = nI o.2.1 ∧ Rows N τ' Z0 o.2.1 o.2.2) ∨ (o.1 = false ∧ ∃ τ' a, x = some (.inr a, τ') ∧ FrB N τ0 τ' ∧ Flt τ' a o.2.1)
/-- one line read into the row -/
theorem x_oneline {N : Nat} {τ0 τ : Hp} {S : St} (g : Good S) (h0 : RepX N τ0 S) {Z0 m p : Nat} {rd : Nat → Nat} (h : RSx N τ0 S Z0 τ m p rd) (hm : m < 10) (K : Hp → Option ((Unit ⊕ Nat) × Hp)) (o : Nat → (Nat → Nat) → Out)
    (hK : ∀ τ', RSx N τ0 S Z0 τ' (m + 1) (lnS S p (3 * m) rd).2.1 (lnS S p (3 * m) rd).2.2 → EndX N τ0 Z0 (K τ') (o (lnS S p (3 * m) rd).2.1 (lnS S p (3 * m) rd).2.2)) :
    EndX N τ0 Z0 (b1 (gR 5 0 (N + 211) τ) (fun v7 => b1 (gI 5 1 (N + 211) τ) (fun v8 => b2 (F_X5_line τ (N + 211)) (fun v9 s4 => tx v9 (fun v9 => lk v9 s4 (b1 (sR 4 v7 v8 v9 s4) (fun s5 => b1 (gI 5 1 (N + 211) s5) (fun v10 => b1 (pI 5 1 (N + 211) (v10 + 1) s5) (fun s6 => K s6))))) (fun a => some (.inr a, s4)))))) (if (lnS S p (3 * m) rd).1 = true then o (lnS S p (3 * m) rd).2.1 (lnS S p (3 * m) rd).2.2 else lnS S p (3 * m) rd) := by
  obtain ⟨f1, f2, f3, f4, f5, f6⟩ := h
  have rx : RepX N τ S := h0.frb f1
  have hz0 : N + 271 ≤ hZ τ0 := h0.2.1
  have s := rx.1
  rw [gR_at s.t211 f6.1, b1_some, gI_at s.t211, b1_some, f5]
  rcases x_rline g rx f4 f3 (3 * m) rd with ⟨q, τ1, a, t1, t2, t3, t4, t5, t6, t7⟩ | ⟨q, τ1, a, t1, t2, t3⟩
  · rw [if_pos q, t1, b2_some]
    have ro : Rows N τ1 Z0 m (lnS S p (3 * m) rd).2.2 := (f6.frr t2).cg (fun i hi => lnS_lo S p (3 * m) rd hi)
    have f1' := f1.1
    have aN' : N + 271 ≤ a := by omega
    have az : a ≠ Z0 := by have := f6.2.2.2.1; omega
    have ro2 := ro.add aN' az t4 t5
    have s1 := (rx.frr t2).1
    have lkx : ∀ x : Option ((Unit ⊕ Nat) × Hp), lk a τ1 x = x := fun x => by
      unfold lk
      refine if_pos ?_
      rcases t5 with z | z | z | z
      · exact Or.inl z.2.1
      · exact Or.inr (Or.inl z.2.1)
      · exact Or.inr (Or.inr (Or.inl z.2.1))
      · exact Or.inr (Or.inr (Or.inr z.2.1))
    have aN4 : aN 4 Z0 τ1 = some 10 := aN_of ro.2.1
    have i1 : hI (setR τ1 Z0 m (some a)) (N + 211) 1 = nI m := (t2.2.2.2.2.2 1 (by omega) (by omega) (by omega)).trans f5
    have fin := hK (setI (setR τ1 Z0 m (some a)) (N + 211) 1 (nI (m + 1))) ⟨((f1.frr t2).sr f2 (by omega)).si _ _, f2, ⟨(hI_ne _ _ (by omega)).trans t6.1, (hI_ne _ _ (by omega)).trans t6.2.1, (hI_ne _ _ (by omega)).trans t6.2.2⟩, t7, hI_same _ _ _ _, ro2.si⟩
    show EndX N τ0 Z0 (lk a τ1 (b1 (sR 4 Z0 (nI m) a τ1) _)) _
    rw [lkx, sR_at aN4 hm (by omega), b1_some, gI_at (show hT (setR τ1 Z0 m (some a)) (N + 211) = some (.inl 5) from s1.t211), b1_some, i1, pI_at (show hT (setR τ1 Z0 m (some a)) (N + 211) = some (.inl 5) from s1.t211), b1_some]
    have e : nI m + 1 = nI (m + 1) := nI_add m 1
    rw [e]
    exact fin
  · rw [if_neg (by rw [q]; decide), t1, b2_some]
    exact Or.inr ⟨q, τ1, a, rfl, f1.frr t2, t3⟩
theorem x_loop {N : Nat} {τ0 : Hp} {S : St} (g : Good S) (h0 : RepX N τ0 S) {Z0 : Nat} : ∀ r m p rd τ n, m + r = 10 → 1 ≤ m → r < n → RSx N τ0 S Z0 τ m p rd → EndX N τ0 Z0 (it (fun rec st => B_X5_read_46 (N + 211) rec st) n τ) (tlS S r m p rd) := by
  intro r
  induction r with
  | zero =>
    intro m p rd τ n hm h1 hn h
    obtain ⟨n, rfl⟩ : ∃ k, n = k + 1 := ⟨n - 1, by omega⟩
    have lg := g.lg
    obtain ⟨f1, f2, f3, f4, f5, f6⟩ := h
    have rx : RepX N τ S := h0.frb f1
    have s := rx.1
    obtain ⟨a1, a2, -, -⟩ := isA_ok g f4
    have l : hI τ N 13 = nI (S.1 19) := RepX.s19 (f := τ.2.1) (σ := τ) rx
    have xw := x_word g rx f4 f3 (w := 5) (by omega)
    obtain ⟨τn, an, n1, n2, n3⟩ := x_need0 rx f3
    rw [it_s]
    unfold tlS
    show EndX N τ0 Z0 (B_X5_read_46 (N + 211) _ τ) _
    generalize it (fun rec st => B_X5_read_46 (N + 211) rec st) n = R
    unfold B_X5_read_46
    rw [gI_at s.t211, b1_some, s.r211_5, b1_some, gI_at s.t0, b1_some, l, f3.2.1]
    by_cases q : isA S p = S.1 19
    · rw [if_pos (by rw [le_lit (by omega) (by omega)]; omega), if_pos q]
      exact Or.inl ⟨rfl, τ, rfl, f1, f2, f5, f6⟩
    · rw [if_neg (by rw [le_lit (by omega) (by omega)]; omega), if_neg q, if_neg (fun z => by omega), xw, b2_some]
      right
      refine ⟨rfl, τn, an, ?_, f1.frr n2, n3⟩
      by_cases qw : wd S p 5
      · rw [if_pos qw, if_neg (by decide), gI_at s.t211, b1_some, f5, if_pos (by rw [litI 10, le_lit (by omega) (by omega)]; omega), n1, b2_some]
        rfl
      · rw [if_neg qw, if_pos (by decide), n1, b2_some]
        rfl
  | succ r ih =>
    intro m p rd τ n hm h1 hn h
    obtain ⟨n, rfl⟩ : ∃ k, n = k + 1 := ⟨n - 1, by omega⟩
    have lg := g.lg
    obtain ⟨f1, f2, f3, f4, f5, f6⟩ := h
    have rx : RepX N τ S := h0.frb f1
    have s := rx.1
    obtain ⟨a1, a2, -, -⟩ := isA_ok g f4
    obtain ⟨e1', e2, -⟩ := isE_ok g f4
    have l : hI τ N 13 = nI (S.1 19) := RepX.s19 (f := τ.2.1) (σ := τ) rx
    have xw := x_word g rx f4 f3 (w := 5) (by omega)
    obtain ⟨τn, an, n1, n2, n3⟩ := x_need0 rx f3
    rw [it_s]
    unfold tlS
    show EndX N τ0 Z0 (B_X5_read_46 (N + 211) _ τ) _
    have ih' : ∀ τ p rd, RSx N τ0 S Z0 τ (m + 1) p rd → EndX N τ0 Z0 (it (fun rec st => B_X5_read_46 (N + 211) rec st) n τ) (tlS S r (m + 1) p rd) := fun τ p rd hh => ih (m + 1) p rd τ n (by omega) (by omega) (by omega) hh
    generalize it (fun rec st => B_X5_read_46 (N + 211) rec st) n = R at ih'
    unfold B_X5_read_46
    rw [gI_at s.t211, b1_some, s.r211_5, b1_some, gI_at s.t0, b1_some, l, f3.2.1]
    by_cases q : isA S p = S.1 19
    · rw [if_pos (by rw [le_lit (by omega) (by omega)]; omega), if_pos q]
      exact Or.inl ⟨rfl, τ, rfl, f1, f2, f5, f6⟩
    · rw [if_neg (by rw [le_lit (by omega) (by omega)]; omega), if_neg q, xw, b2_some]
      by_cases qw : wd S p 5
      · obtain ⟨τ2, t1, t2, t3⟩ := x_token g rx e2 f3.1
        rw [if_pos qw, if_neg (show ¬ nI 1 = 0 by decide), if_pos (show wd S p 5 ∧ m < 10 from ⟨qw, by omega⟩), gI_at s.t211, b1_some, f5, if_neg (by rw [litI 10, le_lit (by omega) (by omega)]; omega), x_need1 s, b2_some, rdS_s]
        show EndX N τ0 Z0 (b1 (F_X5_token τ (N + 211)) _) _
        rw [t1, b1_some]
        exact x_oneline g h0 ⟨f1.frr t2, f2, t3, e2, (t2.2.2.2.2.2 1 (by omega) (by omega) (by omega)).trans f5, f6.frr t2⟩ (by omega) R (fun p rd => tlS S r (m + 1) p rd) (fun τ' hh => ih' τ' _ _ hh)
      · rw [if_neg qw, if_pos (show nI 0 = 0 from rfl), if_neg (show ¬ (wd S p 5 ∧ m < 10) from fun z => qw z.1), n1, b2_some]
        exact Or.inr ⟨rfl, τn, an, rfl, f1.frr n2, n3⟩
theorem x_read {N : Nat} {τ : Hp} {S : St} (g : Good S) (h0 : RepX N τ S) (rd : Nat → Nat) : EndX N τ (hZ τ) (F_X5_read τ (N + 211)) (rdS S 10 0 0 rd) := by
  have hz : N + 271 ≤ hZ τ := h0.2.1
  have s := h0.1
  have b := FrR.bn (N := N) (τ := τ) (.inr (4, 10)) (by omega)
  have b0 : FrB N τ (born τ (.inr (4, 10))) := ⟨b.1, b.2.1, b.2.2.1, fun k _ => b.2.2.2.1 k, b.2.2.2.2.1⟩
  have t5 : hT (born τ (.inr (4, 10))) (N + 211) = some (.inl 5) := b.2.2.1.trans s.t211
  obtain ⟨τ1, h1⟩ : ∃ τ1, τ1 = setI (setI (setR (born τ (.inr (4, 10))) (N + 211) 0 (some (hZ τ))) (N + 211) 2 (nI 0)) (N + 211) 1 (nI 0) := ⟨_, rfl⟩
  have fr : FrB N τ (setR (born τ (.inr (4, 10))) (N + 211) 0 (some (hZ τ))) := ⟨b0.1, fun a ha hn => (b0.2.1 a ha hn).tr (SameAt.sr hn), b0.2.2.1, fun k hk => (if_neg (fun z => hk z.2)).trans (b0.2.2.2.1 k hk), b0.2.2.2.2⟩
  have f1 : FrB N τ τ1 := by rw [h1]; exact (fr.si _ _).si _ _
  have rx : RepX N τ1 S := h0.frb f1
  have i2 : hI τ1 (N + 211) 2 = nI 0 := by rw [h1, hI_ne _ _ (by omega), hI_same]
  have i1 : hI τ1 (N + 211) 1 = nI 0 := by rw [h1, hI_same]
  have ro : Rows N τ1 (hZ τ) 0 rd := ⟨by rw [h1]; exact if_pos ⟨rfl, rfl⟩, by rw [h1]; exact if_pos rfl, hz, by rw [h1]; show hZ τ < hZ τ + 1; omega, fun i hi => absurd hi (Nat.not_lt_zero i)⟩
  obtain ⟨τ2, u1, u2', u3⟩ := x_token g rx (Nat.zero_le _) i2
  have L0 : F_X5_read τ (N + 211) = b1 (F_X5_token τ1 (N + 211)) (fun s4 => b1 (gR 5 0 (N + 211) s4) (fun v2 => b1 (gI 5 1 (N + 211) s4) (fun v3 => b2 (F_X5_line s4 (N + 211)) (fun v4 s5 => tx v4 (fun v4 => lk v4 s5 (b1 (sR 4 v2 v3 v4 s5) (fun s6 => b1 (gI 5 1 (N + 211) s6) (fun v5 => b1 (pI 5 1 (N + 211) (v5 + 1) s6) (fun s7 => L_X5_read_46 (N + 211) 11 s7))))) (fun a => some (.inr a, s5)))))) := by
    rw [h1]
    unfold F_X5_read
    rw [gd_at s.t211, pR_at t5, b1_some, pI_at (show hT (setR (born τ (.inr (4, 10))) (N + 211) 0 (some (hZ τ))) (N + 211) = some (.inl 5) from t5), b1_some, pI_at (show hT (setI (setR (born τ (.inr (4, 10))) (N + 211) 0 (some (hZ τ))) (N + 211) 2 0) (N + 211) = some (.inl 5) from t5), b1_some]
    rfl
  rw [L0, u1, b1_some, rdS_s]
  exact x_oneline g h0 ⟨f1.frr u2', Nat.le_refl _, u3, Nat.zero_le _, (u2'.2.2.2.2.2 1 (by omega) (by omega) (by omega)).trans i1, ro.frr u2'⟩ (by omega) (fun s7 => L_X5_read_46 (N + 211) 11 s7) (fun p rd => tlS S 9 1 p rd) (fun τ' hh => x_loop g h0 9 1 _ _ τ' 11 (by omega) (by omega) (by omega) hh)
/-! fault, rules -/
theorem RepX.w28 {N : Nat} {τ : Hp} {S : St} (h : RepX N τ S) (D : Nat → Nat) : RepX N τ (wA S 28 D) := by
  obtain ⟨h1, h2, hA, hB, hC, hD, hE, hF, hG, hH⟩ := h
  have hx3 : ∀ x ∈ xAr, x.2.1 ≠ 28 := by decide
  refine ⟨h1, h2, hA, hB.cg (fun x hx i => by rw [wA_n (hx3 x hx)]), ?_, hD.cg (fun k h1 h2 i => by rw [wA_n (by omega)]), ?_, hF.cg (fun k h1 h2 i => by rw [wA_n (by omega)]), ?_, ?_⟩
  · have e : jn (wA S 28 D) = jn S := by
      funext a b
      unfold jn
      rw [wA_n (by omega), wA_n (by omega)]
      rfl
    rw [e]
    exact hC
  · rw [wA_n (by omega)]; exact hE
  · rw [wA_n (by omega)]; exact hG
  · rw [wA_n (by omega)]; exact hH
theorem x_fault (N : Nat) : OkX N (fun σ => F_X0_fault σ N) oFault := by
  intro σ S g h0
  have hz : N + 271 ≤ hZ σ := h0.2.1
  have s := h0.1
  show ∃ σ', F_X0_fault σ N = _ ∧ _
  unfold F_X0_fault oFault
  rw [gd_at s.t0, s.r14, b1_some]
  rcases x_read g h0 (S.2 28) with ⟨q, τ', t1, t2, t3, t4, t5⟩ | ⟨q, τ', a, t1, t2, t3⟩
  · have q' : (rdO S).1 = true := q
    rw [t1, b2_some, if_pos q']
    exact ⟨τ', rfl, (h0.frb t2).w28 _, t2.x (by omega)⟩
  · have q' : (rdO S).1 = false := q
    rw [t1, b2_some, if_neg (by rw [q']; decide)]
    refine ⟨τ', ?_, (h0.frb t2).w28 _, t2.x (by omega)⟩
    show gd 11 a τ' (b1 (gI 11 6 a τ') _) = _
    rw [gd_at t3.1, gI_at t3.1, b1_some, t3.2]
    rfl
